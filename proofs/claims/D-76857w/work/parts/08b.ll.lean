/-! LinkedList and its iterator, over the abstract heap: by program -/
set_option maxRecDepth 100000
def w_J36_init (G : GG) (hp : HP) (this : Nat) (a1 : Option Nat) (a2 : Option Nat) (a3 : Option Nat) (Q : HP → Prop) : Prop :=
  hPut hp this 27 0 (va_rf a2) fun hp1 => hPut hp1 this 27 1 (va_rf a3) fun hp2 => hPut hp2 this 27 2 (va_rf a1) fun hp3 => Q hp3
theorem hd_J36_init : yJ36_init.cls ≠ "java/lang/invoke/MethodHandle" ∧ yJ36_init.cls ≠ "java/lang/invoke/VarHandle" ∧ (parseMethodDescriptor yJ36_init.desc).map (fun d => d.parameters.length) = some 3 := by decide +kernel
theorem wb_J36_init {p : Program} {l : Launch} {e : Env} {s : State} {m : MethodId} {args : Array Value} {below : List Frame} {meth : Method} {c : Code} {G : GG} (X : CX p s m args meth c cJ36_init 4 RJ36 none G) (hin : meth.name = "<init>") {Q : HP → Prop} {hp : HP} {this : Nat} {a1 : Option Nat} {a2 : Option Nat} {a3 : Option Nat} (hE : w_J36_init G hp this a1 a2 a3 Q) {H : Heap} {locs : List Loc} {ls : Array Slot} (hW : WH G hp H locs) (hl : lv_has ls 4 [(0, .ref this), (1, va_rf a1), (2, va_rf a2), (3, va_rf a3)]) : W p l e (rmA 1 0 0) s m args below meth c H locs 0 0 (QH below G args s 0 0 (pV Q)) (F0 m 0 ls []) := by
  unfold w_J36_init at hE
  refine e_aload_n X hl 0 rfl dJ36_init_0 rfl ?_
  refine h_objInit X hl.1 q1396 (Nat.le_of_ble_eq_true rfl) dJ36_init_1 q204 q205 (by decide) ?_
  refine e_aload_n X hl 0 rfl dJ36_init_4 rfl ?_
  refine e_aloadR_n X hl 2 rfl dJ36_init_5 rfl ?_
  refine h_put X hW ck_J36 (k := 0) hE (by decide) q1397 (fun _ h => h) rfl rfl (fit_R a2) dJ36_init_6 (fun hp1 hE H locs hW => ?_)
  refine e_aload_n X hl 0 rfl dJ36_init_9 rfl ?_
  refine e_aloadR_n X hl 3 rfl dJ36_init_10 rfl ?_
  refine h_put X hW ck_J36 (k := 1) hE (by decide) q1400 (fun _ h => h) rfl rfl (fit_R a3) dJ36_init_11 (fun hp2 hE H locs hW => ?_)
  refine e_aload_n X hl 0 rfl dJ36_init_14 rfl ?_
  refine e_aloadR_n X hl 1 rfl dJ36_init_15 rfl ?_
  refine h_put X hW ck_J36 (k := 2) hE (by decide) q1403 (fun _ h => h) rfl rfl (fit_R a1) dJ36_init_16 (fun hp3 hE H locs hW => ?_)
  exact h_vret X hW hE (Nat.le_of_ble_eq_true rfl) (Nat.le_of_ble_eq_true rfl) dJ36_init_19
theorem mh_J36_init (l : Launch) (G : GG) (hp : HP) (this : Nat) (a1 : Option Nat) (a2 : Option Nat) (a3 : Option Nat) (Q : HP → Prop) (hE : w_J36_init G hp this a1 a2 a3 Q) : MH l yJ36_init (ws_ yJ36_init cJ36_init 4 none) 1 0 0 G [.ref this, va_rf a1, va_rf a2, va_rf a3] hp (pV Q) :=
  MH.of (by decide +kernel) (by cases a1 <;> cases a2 <;> cases a3 <;> exact Nat.le_of_ble_eq_true rfl) (lv := [(0, .ref this), (1, va_rf a1), (2, va_rf a2), (3, va_rf a3)]) (by cases a1 <;> cases a2 <;> cases a3 <;> rfl) (fun p e s m below meth c ls X hin hW hl => wb_J36_init X hin hE hW hl)
def w_J3_size (G : GG) (hp : HP) (this : Nat) (Q : Int → HP → Prop) : Prop :=
  hI hp this 12 1 fun v1 => Q v1 hp
theorem hd_J3_size : yJ3_size.cls = RJ3 ∧ yJ3_size.cls ≠ "java/lang/invoke/MethodHandle" ∧ yJ3_size.cls ≠ "java/lang/invoke/VarHandle" ∧ (parseMethodDescriptor yJ3_size.desc).map (fun d => d.parameters.length) = some 0 := by decide +kernel
theorem wb_J3_size {p : Program} {l : Launch} {e : Env} {s : State} {m : MethodId} {args : Array Value} {below : List Frame} {meth : Method} {c : Code} {G : GG} (X : CX p s m args meth c cJ3_size 1 RJ3 (some .int) G) {Q : Int → HP → Prop} {hp : HP} {this : Nat} (hE : w_J3_size G hp this Q) {H : Heap} {locs : List Loc} {ls : Array Slot} (hW : WH G hp H locs) (hl : lv_has ls 1 [(0, .ref this)]) : W p l e (rmA 0 0 0) s m args below meth c H locs 0 0 (QH below G args s 0 0 (pI Q)) (F0 m 0 ls []) := by
  unfold w_J3_size at hE
  refine e_aload_n X hl 0 rfl dJ3_size_0 rfl ?_
  refine h_getI X hW ck_J3 (k := 1) hE (by decide) q221 (fun _ h => h) dJ3_size_1 (fun v1 hE => ?_)
  exact h_zret X hW hE rfl (Nat.le_of_ble_eq_true rfl) (Nat.le_of_ble_eq_true rfl) dJ3_size_4
theorem mh_J3_size (l : Launch) (G : GG) (hp : HP) (this : Nat) (Q : Int → HP → Prop) (hE : w_J3_size G hp this Q) : MH l yJ3_size (ws_ yJ3_size cJ3_size 1 (some .int)) 0 0 0 G [.ref this] hp (pI Q) :=
  MH.of (by decide +kernel) (Nat.le_of_ble_eq_true rfl) rfl (fun p e s m below meth c ls X hin hW hl => wb_J3_size X hE hW hl)
def w_J3_isPositionIndex (G : GG) (hp : HP) (this : Nat) (a1 : Int) (Q : Int → HP → Prop) : Prop :=
  hIf (w32 a1 < 0) (Q 0 hp) (hI hp this 12 1 fun v1 => hIf (w32 v1 < w32 a1) (Q 0 hp) (Q 1 hp))
theorem hd_J3_isPositionIndex : yJ3_isPositionIndex.cls = RJ3 ∧ yJ3_isPositionIndex.cls ≠ "java/lang/invoke/MethodHandle" ∧ yJ3_isPositionIndex.cls ≠ "java/lang/invoke/VarHandle" ∧ (parseMethodDescriptor yJ3_isPositionIndex.desc).map (fun d => d.parameters.length) = some 1 := by decide +kernel
theorem wb_J3_isPositionIndex {p : Program} {l : Launch} {e : Env} {s : State} {m : MethodId} {args : Array Value} {below : List Frame} {meth : Method} {c : Code} {G : GG} (X : CX p s m args meth c cJ3_isPositionIndex 2 RJ3 (some .boolean) G) {Q : Int → HP → Prop} {hp : HP} {this : Nat} {a1 : Int} (hE : w_J3_isPositionIndex G hp this a1 Q) {H : Heap} {locs : List Loc} {ls : Array Slot} (hW : WH G hp H locs) (hl : lv_has ls 2 [(0, .ref this), (1, vI a1)]) : W p l e (rmA 0 0 0) s m args below meth c H locs 0 0 (QH below G args s 0 0 (pI Q)) (F0 m 0 ls []) := by
  unfold w_J3_isPositionIndex at hE
  refine e_iload_n X hl 1 rfl dJ3_isPositionIndex_0 rfl ?_
  refine h_if_lt X (w32 a1) rfl hE dJ3_isPositionIndex_1 rfl (fun hE => ?_) (fun hE => ?_)
  · refine e_iconst X dJ3_isPositionIndex_16 ?_
    exact h_zret (x := 0) X hW hE rfl (Nat.le_of_ble_eq_true rfl) (Nat.le_of_ble_eq_true rfl) dJ3_isPositionIndex_17
  · refine e_iload_n X hl 1 rfl dJ3_isPositionIndex_4 rfl ?_
    refine e_aload_n X hl 0 rfl dJ3_isPositionIndex_5 rfl ?_
    refine h_getI X hW ck_J3 (k := 1) hE (by decide) q221 (fun _ h => h) dJ3_isPositionIndex_6 (fun v1 hE => ?_)
    refine h_icmp_gt X (w32 a1) (w32 v1) rfl rfl hE dJ3_isPositionIndex_9 rfl (fun hE => ?_) (fun hE => ?_)
    · refine e_iconst X dJ3_isPositionIndex_16 ?_
      exact h_zret (x := 0) X hW hE rfl (Nat.le_of_ble_eq_true rfl) (Nat.le_of_ble_eq_true rfl) dJ3_isPositionIndex_17
    · refine e_iconst X dJ3_isPositionIndex_12 ?_
      refine e_goto X dJ3_isPositionIndex_13 rfl ?_
      exact h_zret (x := 1) X hW hE rfl (Nat.le_of_ble_eq_true rfl) (Nat.le_of_ble_eq_true rfl) dJ3_isPositionIndex_17
theorem mh_J3_isPositionIndex (l : Launch) (G : GG) (hp : HP) (this : Nat) (a1 : Int) (Q : Int → HP → Prop) (hE : w_J3_isPositionIndex G hp this a1 Q) : MH l yJ3_isPositionIndex (ws_ yJ3_isPositionIndex cJ3_isPositionIndex 2 (some .boolean)) 0 0 0 G [.ref this, vI a1] hp (pI Q) :=
  MH.of (by decide +kernel) (Nat.le_of_ble_eq_true rfl) rfl (fun p e s m below meth c ls X hin hW hl => wb_J3_isPositionIndex X hE hW hl)
def w_J3_isElementIndex (G : GG) (hp : HP) (this : Nat) (a1 : Int) (Q : Int → HP → Prop) : Prop :=
  hIf (w32 a1 < 0) (Q 0 hp) (hI hp this 12 1 fun v1 => hIf (w32 v1 ≤ w32 a1) (Q 0 hp) (Q 1 hp))
theorem hd_J3_isElementIndex : yJ3_isElementIndex.cls = RJ3 ∧ yJ3_isElementIndex.cls ≠ "java/lang/invoke/MethodHandle" ∧ yJ3_isElementIndex.cls ≠ "java/lang/invoke/VarHandle" ∧ (parseMethodDescriptor yJ3_isElementIndex.desc).map (fun d => d.parameters.length) = some 1 := by decide +kernel
theorem wb_J3_isElementIndex {p : Program} {l : Launch} {e : Env} {s : State} {m : MethodId} {args : Array Value} {below : List Frame} {meth : Method} {c : Code} {G : GG} (X : CX p s m args meth c cJ3_isElementIndex 2 RJ3 (some .boolean) G) {Q : Int → HP → Prop} {hp : HP} {this : Nat} {a1 : Int} (hE : w_J3_isElementIndex G hp this a1 Q) {H : Heap} {locs : List Loc} {ls : Array Slot} (hW : WH G hp H locs) (hl : lv_has ls 2 [(0, .ref this), (1, vI a1)]) : W p l e (rmA 0 0 0) s m args below meth c H locs 0 0 (QH below G args s 0 0 (pI Q)) (F0 m 0 ls []) := by
  unfold w_J3_isElementIndex at hE
  refine e_iload_n X hl 1 rfl dJ3_isElementIndex_0 rfl ?_
  refine h_if_lt X (w32 a1) rfl hE dJ3_isElementIndex_1 rfl (fun hE => ?_) (fun hE => ?_)
  · refine e_iconst X dJ3_isElementIndex_16 ?_
    exact h_zret (x := 0) X hW hE rfl (Nat.le_of_ble_eq_true rfl) (Nat.le_of_ble_eq_true rfl) dJ3_isElementIndex_17
  · refine e_iload_n X hl 1 rfl dJ3_isElementIndex_4 rfl ?_
    refine e_aload_n X hl 0 rfl dJ3_isElementIndex_5 rfl ?_
    refine h_getI X hW ck_J3 (k := 1) hE (by decide) q221 (fun _ h => h) dJ3_isElementIndex_6 (fun v1 hE => ?_)
    refine h_icmp_ge X (w32 a1) (w32 v1) rfl rfl hE dJ3_isElementIndex_9 rfl (fun hE => ?_) (fun hE => ?_)
    · refine e_iconst X dJ3_isElementIndex_16 ?_
      exact h_zret (x := 0) X hW hE rfl (Nat.le_of_ble_eq_true rfl) (Nat.le_of_ble_eq_true rfl) dJ3_isElementIndex_17
    · refine e_iconst X dJ3_isElementIndex_12 ?_
      refine e_goto X dJ3_isElementIndex_13 rfl ?_
      exact h_zret (x := 1) X hW hE rfl (Nat.le_of_ble_eq_true rfl) (Nat.le_of_ble_eq_true rfl) dJ3_isElementIndex_17
theorem mh_J3_isElementIndex (l : Launch) (G : GG) (hp : HP) (this : Nat) (a1 : Int) (Q : Int → HP → Prop) (hE : w_J3_isElementIndex G hp this a1 Q) : MH l yJ3_isElementIndex (ws_ yJ3_isElementIndex cJ3_isElementIndex 2 (some .boolean)) 0 0 0 G [.ref this, vI a1] hp (pI Q) :=
  MH.of (by decide +kernel) (Nat.le_of_ble_eq_true rfl) rfl (fun p e s m below meth c ls X hin hW hl => wb_J3_isElementIndex X hE hW hl)
def w_J3_checkPositionIndex (G : GG) (hp : HP) (this : Nat) (a1 : Int) (Q : HP → Prop) : Prop :=
  hIs hp this 12 (w_J3_isPositionIndex G hp this a1 (fun v2 hp1 => hIf (¬ w32 v2 = 0) (Q hp1) (False)))
theorem hd_J3_checkPositionIndex : yJ3_checkPositionIndex.cls = RJ3 ∧ yJ3_checkPositionIndex.cls ≠ "java/lang/invoke/MethodHandle" ∧ yJ3_checkPositionIndex.cls ≠ "java/lang/invoke/VarHandle" ∧ (parseMethodDescriptor yJ3_checkPositionIndex.desc).map (fun d => d.parameters.length) = some 1 := by decide +kernel
theorem wb_J3_checkPositionIndex {p : Program} {l : Launch} {e : Env} {s : State} {m : MethodId} {args : Array Value} {below : List Frame} {meth : Method} {c : Code} {G : GG} (X : CX p s m args meth c cJ3_checkPositionIndex 2 RJ3 none G) {Q : HP → Prop} {hp : HP} {this : Nat} {a1 : Int} (hE : w_J3_checkPositionIndex G hp this a1 Q) {H : Heap} {locs : List Loc} {ls : Array Slot} (hW : WH G hp H locs) (hl : lv_has ls 2 [(0, .ref this), (1, vI a1)]) : W p l e (rmA 1 0 0) s m args below meth c H locs 0 0 (QH below G args s 0 0 (pV Q)) (F0 m 0 ls []) := by
  unfold w_J3_checkPositionIndex at hE
  refine e_aload_n X hl 0 rfl dJ3_checkPositionIndex_0 rfl ?_
  refine e_iload_n X hl 1 rfl dJ3_checkPositionIndex_1 rfl ?_
  obtain ⟨⟨fs, he⟩, hE⟩ := hE
  refine h_callVI (rest := []) (As := [vI a1]) X hW he ck_J3 (mh_J3_isPositionIndex l G hp this a1 _ hE) (cwV 1 X.ht (lw_V q834 q836 qs11 q131 q837) rfl rfl rfl hd_J3_isPositionIndex (cxH (by decide) (by decide))) rfl hl.1 rfl (Nat.le_of_ble_eq_true rfl) dJ3_checkPositionIndex_2 ⟨Nat.le_of_ble_eq_true rfl, Nat.le_of_ble_eq_true rfl⟩ 0 0 rfl rfl (fun v2 hp1 hE H locs hW => ?_)
  refine h_if_ne X (w32 v2) rfl hE dJ3_checkPositionIndex_5 rfl (fun hE => ?_) (fun hE => ?_)
  · exact h_vret X hW hE (Nat.le_of_ble_eq_true rfl) (Nat.le_of_ble_eq_true rfl) dJ3_checkPositionIndex_21
  · exact hE.elim
theorem mh_J3_checkPositionIndex (l : Launch) (G : GG) (hp : HP) (this : Nat) (a1 : Int) (Q : HP → Prop) (hE : w_J3_checkPositionIndex G hp this a1 Q) : MH l yJ3_checkPositionIndex (ws_ yJ3_checkPositionIndex cJ3_checkPositionIndex 2 none) 1 0 0 G [.ref this, vI a1] hp (pV Q) :=
  MH.of (by decide +kernel) (Nat.le_of_ble_eq_true rfl) rfl (fun p e s m below meth c ls X hin hW hl => wb_J3_checkPositionIndex X hE hW hl)
def w_J3_checkElementIndex (G : GG) (hp : HP) (this : Nat) (a1 : Int) (Q : HP → Prop) : Prop :=
  hIs hp this 12 (w_J3_isElementIndex G hp this a1 (fun v2 hp1 => hIf (¬ w32 v2 = 0) (Q hp1) (False)))
theorem hd_J3_checkElementIndex : yJ3_checkElementIndex.cls = RJ3 ∧ yJ3_checkElementIndex.cls ≠ "java/lang/invoke/MethodHandle" ∧ yJ3_checkElementIndex.cls ≠ "java/lang/invoke/VarHandle" ∧ (parseMethodDescriptor yJ3_checkElementIndex.desc).map (fun d => d.parameters.length) = some 1 := by decide +kernel
theorem wb_J3_checkElementIndex {p : Program} {l : Launch} {e : Env} {s : State} {m : MethodId} {args : Array Value} {below : List Frame} {meth : Method} {c : Code} {G : GG} (X : CX p s m args meth c cJ3_checkElementIndex 2 RJ3 none G) {Q : HP → Prop} {hp : HP} {this : Nat} {a1 : Int} (hE : w_J3_checkElementIndex G hp this a1 Q) {H : Heap} {locs : List Loc} {ls : Array Slot} (hW : WH G hp H locs) (hl : lv_has ls 2 [(0, .ref this), (1, vI a1)]) : W p l e (rmA 1 0 0) s m args below meth c H locs 0 0 (QH below G args s 0 0 (pV Q)) (F0 m 0 ls []) := by
  unfold w_J3_checkElementIndex at hE
  refine e_aload_n X hl 0 rfl dJ3_checkElementIndex_0 rfl ?_
  refine e_iload_n X hl 1 rfl dJ3_checkElementIndex_1 rfl ?_
  obtain ⟨⟨fs, he⟩, hE⟩ := hE
  refine h_callVI (rest := []) (As := [vI a1]) X hW he ck_J3 (mh_J3_isElementIndex l G hp this a1 _ hE) (cwV 1 X.ht (lw_V q940 q942 qs13 q131 q943) rfl rfl rfl hd_J3_isElementIndex (cxH (by decide) (by decide))) rfl hl.1 rfl (Nat.le_of_ble_eq_true rfl) dJ3_checkElementIndex_2 ⟨Nat.le_of_ble_eq_true rfl, Nat.le_of_ble_eq_true rfl⟩ 0 0 rfl rfl (fun v2 hp1 hE H locs hW => ?_)
  refine h_if_ne X (w32 v2) rfl hE dJ3_checkElementIndex_5 rfl (fun hE => ?_) (fun hE => ?_)
  · exact h_vret X hW hE (Nat.le_of_ble_eq_true rfl) (Nat.le_of_ble_eq_true rfl) dJ3_checkElementIndex_21
  · exact hE.elim
theorem mh_J3_checkElementIndex (l : Launch) (G : GG) (hp : HP) (this : Nat) (a1 : Int) (Q : HP → Prop) (hE : w_J3_checkElementIndex G hp this a1 Q) : MH l yJ3_checkElementIndex (ws_ yJ3_checkElementIndex cJ3_checkElementIndex 2 none) 1 0 0 G [.ref this, vI a1] hp (pV Q) :=
  MH.of (by decide +kernel) (Nat.le_of_ble_eq_true rfl) rfl (fun p e s m below meth c ls X hin hW hl => wb_J3_checkElementIndex X hE hW hl)
def w_J3_node_L47 (G : GG) (hp : HP) (b_1 : Int) (k : Option Nat → Int → Prop) : Nat → Option Nat → Int → Prop
  | 0, _, _ => False
  | n + 1, x2, x3 =>
    hIf (w32 x3 ≤ w32 b_1) (k x2 x3) (hNn x2 fun b5 => hR hp b5 27 2 fun r6 => hJn (x3 + (-1)) fun v7 => w_J3_node_L47 G hp b_1 k n r6 v7)
def w_J3_node_L17 (G : GG) (hp : HP) (b_1 : Int) (k : Option Nat → Int → Prop) : Nat → Option Nat → Int → Prop
  | 0, _, _ => False
  | n + 1, x2, x3 =>
    hIf (w32 b_1 ≤ w32 x3) (k x2 x3) (hNn x2 fun b11 => hR hp b11 27 1 fun r12 => hJn (x3 + 1) fun v13 => w_J3_node_L17 G hp b_1 k n r12 v13)
def w_J3_node (G : GG) (hp : HP) (this : Nat) (a1 : Int) (Q : Option Nat → HP → Prop) : Prop :=
  hI hp this 12 1 fun v1 => hIf (w32 (iShr v1 1) ≤ w32 a1) (hR hp this 12 3 fun r2 => hI hp this 12 1 fun v3 => hJn (v3 - 1) fun v4 => ∃ n : Nat, w_J3_node_L47 G hp a1 (fun (r8 : Option Nat) (v9 : Int) => Q r8 hp) n r2 v4) (hR hp this 12 2 fun r10 => ∃ n : Nat, w_J3_node_L17 G hp a1 (fun (r14 : Option Nat) (v15 : Int) => Q r14 hp) n r10 0)
theorem hd_J3_node : yJ3_node.cls = RJ3 ∧ yJ3_node.cls ≠ "java/lang/invoke/MethodHandle" ∧ yJ3_node.cls ≠ "java/lang/invoke/VarHandle" ∧ (parseMethodDescriptor yJ3_node.desc).map (fun d => d.parameters.length) = some 1 := by decide +kernel
theorem wl_J3_node_47 {p : Program} {l : Launch} {e : Env} {s : State} {m : MethodId} {args : Array Value} {below : List Frame} {meth : Method} {c : Code} {G : GG} (X : CX p s m args meth c cJ3_node 4 RJ3 (some (.object "java/util/LinkedList$Node")) G) {Q : Option Nat → HP → Prop} {hp : HP} {b_1 : Int} {k : Option Nat → Int → Prop} : ∀ (n : Nat) (x2 : Option Nat) (x3 : Int) (H : Heap) (locs : List Loc) (ls : Array Slot) (hE : w_J3_node_L47 G hp b_1 k n x2 x3) (hW : WH G hp H locs) (hl : lv_has ls 4 [(1, vI b_1), (2, va_rf x2), (3, vI x3)]) (hk : ∀ (x2 : Option Nat) (x3 : Int) (H : Heap) (locs : List Loc) (ls : Array Slot), WH G hp H locs → lv_has ls 4 [(1, vI b_1), (2, va_rf x2), (3, vI x3)] → k x2 x3 → W p l e (rmA 0 0 0) s m args below meth c H locs 0 0 (QH below G args s 0 0 (pR Q)) (F0 m 63 ls [])), W p l e (rmA 0 0 0) s m args below meth c H locs 0 0 (QH below G args s 0 0 (pR Q)) (F0 m 47 ls []) := by
  intro n
  induction n with
  | zero =>
    intro x2 x3 H locs ls hE hW hl hk
    unfold w_J3_node_L47 at hE
    exact hE.elim
  | succ n ih =>
    intro x2 x3 H locs ls hE hW hl hk
    unfold w_J3_node_L47 at hE
    refine e_iload_n X hl 2 rfl dJ3_node_47 rfl ?_
    refine e_iload_n X hl 0 rfl dJ3_node_48 rfl ?_
    refine h_icmp_le X (w32 x3) (w32 b_1) rfl rfl hE dJ3_node_49 rfl (fun hE => ?_) (fun hE => ?_)
    · exact hk x2 x3 _ _ _ hW (lv_sub hl [0, 1, 2] rfl) hE
    · refine e_aloadR_n X hl 1 rfl dJ3_node_52 rfl ?_
      refine h_nn0 hE (fun b5 hE => ?_)
      refine h_getR X hW ck_J36 (k := 2) hE (by decide) q1404 (fun _ h => h) dJ3_node_53 (fun r6 hE => ?_)
      refine e_astoreR_n X hl [(2, va_rf r6), (1, vI b_1), (3, vI x3)] dJ3_node_56 rfl (by decide) rfl (fun ls hl => ?_)
      refine h_iinc X hl 2 hE (fun v7 => [(3, vI v7), (2, va_rf r6), (1, vI b_1)]) rfl dJ3_node_57 (by decide) (fun _ => by generalize r6 = r; cases r <;> rfl) (fun v7 hE ls hl => ?_)
      refine e_goto X dJ3_node_60 rfl ?_
      exact ih r6 v7 _ _ _ hE hW (lv_sub hl [2, 1, 0] rfl) hk
theorem wl_J3_node_17 {p : Program} {l : Launch} {e : Env} {s : State} {m : MethodId} {args : Array Value} {below : List Frame} {meth : Method} {c : Code} {G : GG} (X : CX p s m args meth c cJ3_node 4 RJ3 (some (.object "java/util/LinkedList$Node")) G) {Q : Option Nat → HP → Prop} {hp : HP} {b_1 : Int} {k : Option Nat → Int → Prop} : ∀ (n : Nat) (x2 : Option Nat) (x3 : Int) (H : Heap) (locs : List Loc) (ls : Array Slot) (hE : w_J3_node_L17 G hp b_1 k n x2 x3) (hW : WH G hp H locs) (hl : lv_has ls 4 [(1, vI b_1), (2, va_rf x2), (3, vI x3)]) (hk : ∀ (x2 : Option Nat) (x3 : Int) (H : Heap) (locs : List Loc) (ls : Array Slot), WH G hp H locs → lv_has ls 4 [(1, vI b_1), (2, va_rf x2), (3, vI x3)] → k x2 x3 → W p l e (rmA 0 0 0) s m args below meth c H locs 0 0 (QH below G args s 0 0 (pR Q)) (F0 m 33 ls [])), W p l e (rmA 0 0 0) s m args below meth c H locs 0 0 (QH below G args s 0 0 (pR Q)) (F0 m 17 ls []) := by
  intro n
  induction n with
  | zero =>
    intro x2 x3 H locs ls hE hW hl hk
    unfold w_J3_node_L17 at hE
    exact hE.elim
  | succ n ih =>
    intro x2 x3 H locs ls hE hW hl hk
    unfold w_J3_node_L17 at hE
    refine e_iload_n X hl 2 rfl dJ3_node_17 rfl ?_
    refine e_iload_n X hl 0 rfl dJ3_node_18 rfl ?_
    refine h_icmp_ge X (w32 x3) (w32 b_1) rfl rfl hE dJ3_node_19 rfl (fun hE => ?_) (fun hE => ?_)
    · exact hk x2 x3 _ _ _ hW (lv_sub hl [0, 1, 2] rfl) hE
    · refine e_aloadR_n X hl 1 rfl dJ3_node_22 rfl ?_
      refine h_nn0 hE (fun b11 hE => ?_)
      refine h_getR X hW ck_J36 (k := 1) hE (by decide) q1402 (fun _ h => h) dJ3_node_23 (fun r12 hE => ?_)
      refine e_astoreR_n X hl [(2, va_rf r12), (1, vI b_1), (3, vI x3)] dJ3_node_26 rfl (by decide) rfl (fun ls hl => ?_)
      refine h_iinc X hl 2 hE (fun v13 => [(3, vI v13), (2, va_rf r12), (1, vI b_1)]) rfl dJ3_node_27 (by decide) (fun _ => by generalize r12 = r; cases r <;> rfl) (fun v13 hE ls hl => ?_)
      refine e_goto X dJ3_node_30 rfl ?_
      exact ih r12 v13 _ _ _ hE hW (lv_sub hl [2, 1, 0] rfl) hk
theorem wb_J3_node {p : Program} {l : Launch} {e : Env} {s : State} {m : MethodId} {args : Array Value} {below : List Frame} {meth : Method} {c : Code} {G : GG} (X : CX p s m args meth c cJ3_node 4 RJ3 (some (.object "java/util/LinkedList$Node")) G) {Q : Option Nat → HP → Prop} {hp : HP} {this : Nat} {a1 : Int} (hE : w_J3_node G hp this a1 Q) {H : Heap} {locs : List Loc} {ls : Array Slot} (hW : WH G hp H locs) (hl : lv_has ls 4 [(0, .ref this), (1, vI a1)]) : W p l e (rmA 0 0 0) s m args below meth c H locs 0 0 (QH below G args s 0 0 (pR Q)) (F0 m 0 ls []) := by
  unfold w_J3_node at hE
  refine e_iload_n X hl 1 rfl dJ3_node_0 rfl ?_
  refine e_aload_n X hl 0 rfl dJ3_node_1 rfl ?_
  refine h_getI X hW ck_J3 (k := 1) hE (by decide) q221 (fun _ h => h) dJ3_node_2 (fun v1 hE => ?_)
  refine e_iconst X dJ3_node_5 ?_
  refine e_ishr X dJ3_node_6 ?_
  refine h_icmp_ge X (w32 a1) (w32 (iShr v1 1)) rfl rfl hE dJ3_node_7 rfl (fun hE => ?_) (fun hE => ?_)
  · refine e_aload_n X hl 0 rfl dJ3_node_35 rfl ?_
    refine h_getR X hW ck_J3 (k := 3) hE (by decide) q224 (fun _ h => h) dJ3_node_36 (fun r2 hE => ?_)
    refine e_astoreR_n X hl [(2, va_rf r2), (0, .ref this), (1, vI a1)] dJ3_node_39 rfl (by decide) rfl (fun ls hl => ?_)
    refine e_aload_n X hl 1 rfl dJ3_node_40 rfl ?_
    refine h_getI X hW ck_J3 (k := 1) hE (by decide) q221 (fun _ h => h) dJ3_node_41 (fun v3 hE => ?_)
    refine e_iconst X dJ3_node_44 ?_
    refine e_isub X dJ3_node_45 ?_
    refine h_top hE (fun v4 hE => ?_)
    refine e_istore_n X hl [(3, vI v4), (2, va_rf r2), (0, .ref this), (1, vI a1)] dJ3_node_46 rfl (by decide) (by generalize r2 = r; cases r <;> rfl) (fun ls hl => ?_)
    obtain ⟨n, hE⟩ := hE
    refine wl_J3_node_47 X n r2 v4 _ _ _ hE hW (lv_sub hl [3, 1, 0] rfl) (fun r8 v9 H locs ls hW hl hE => ?_)
    refine e_aloadR_n X hl 1 rfl dJ3_node_63 rfl ?_
    exact h_rret (r := r8) X hW (Or.inl ⟨_, rfl⟩) hE (Nat.le_of_ble_eq_true rfl) (Nat.le_of_ble_eq_true rfl) dJ3_node_64
  · refine e_aload_n X hl 0 rfl dJ3_node_10 rfl ?_
    refine h_getR X hW ck_J3 (k := 2) hE (by decide) q223 (fun _ h => h) dJ3_node_11 (fun r10 hE => ?_)
    refine e_astoreR_n X hl [(2, va_rf r10), (0, .ref this), (1, vI a1)] dJ3_node_14 rfl (by decide) rfl (fun ls hl => ?_)
    refine e_iconst X dJ3_node_15 ?_
    refine e_istore_n X hl [(3, vI 0), (2, va_rf r10), (0, .ref this), (1, vI a1)] dJ3_node_16 rfl (by decide) (by generalize r10 = r; cases r <;> rfl) (fun ls hl => ?_)
    obtain ⟨n, hE⟩ := hE
    refine wl_J3_node_17 X n r10 0 _ _ _ hE hW (lv_sub hl [3, 1, 0] rfl) (fun r14 v15 H locs ls hW hl hE => ?_)
    refine e_aloadR_n X hl 1 rfl dJ3_node_33 rfl ?_
    exact h_rret (r := r14) X hW (Or.inl ⟨_, rfl⟩) hE (Nat.le_of_ble_eq_true rfl) (Nat.le_of_ble_eq_true rfl) dJ3_node_34
theorem mh_J3_node (l : Launch) (G : GG) (hp : HP) (this : Nat) (a1 : Int) (Q : Option Nat → HP → Prop) (hE : w_J3_node G hp this a1 Q) : MH l yJ3_node (ws_ yJ3_node cJ3_node 4 (some (.object "java/util/LinkedList$Node"))) 0 0 0 G [.ref this, vI a1] hp (pR Q) :=
  MH.of (by decide +kernel) (Nat.le_of_ble_eq_true rfl) rfl (fun p e s m below meth c ls X hin hW hl => wb_J3_node X hE hW hl)
def w_J3_get (G : GG) (hp : HP) (this : Nat) (a1 : Int) (Q : Option Nat → HP → Prop) : Prop :=
  hIs hp this 12 (w_J3_checkElementIndex G hp this a1 (fun hp1 => hIs hp1 this 12 (w_J3_node G hp1 this a1 (fun r3 hp2 => hNn r3 fun b4 => hR hp2 b4 27 0 fun r5 => Q r5 hp2))))
theorem hd_J3_get : yJ3_get.cls = RJ3 ∧ yJ3_get.cls ≠ "java/lang/invoke/MethodHandle" ∧ yJ3_get.cls ≠ "java/lang/invoke/VarHandle" ∧ (parseMethodDescriptor yJ3_get.desc).map (fun d => d.parameters.length) = some 1 := by decide +kernel
theorem wb_J3_get {p : Program} {l : Launch} {e : Env} {s : State} {m : MethodId} {args : Array Value} {below : List Frame} {meth : Method} {c : Code} {G : GG} (X : CX p s m args meth c cJ3_get 2 RJ3 (some (.object "java/lang/Object")) G) {Q : Option Nat → HP → Prop} {hp : HP} {this : Nat} {a1 : Int} (hE : w_J3_get G hp this a1 Q) {H : Heap} {locs : List Loc} {ls : Array Slot} (hW : WH G hp H locs) (hl : lv_has ls 2 [(0, .ref this), (1, vI a1)]) : W p l e (rmA 2 0 0) s m args below meth c H locs 0 0 (QH below G args s 0 0 (pR Q)) (F0 m 0 ls []) := by
  unfold w_J3_get at hE
  refine e_aload_n X hl 0 rfl dJ3_get_0 rfl ?_
  refine e_iload_n X hl 1 rfl dJ3_get_1 rfl ?_
  obtain ⟨⟨fs, he⟩, hE⟩ := hE
  refine h_callVV (rest := []) (As := [vI a1]) X hW he ck_J3 (mh_J3_checkElementIndex l G hp this a1 _ hE) (cwV 1 X.ht (lw_V q936 q938 qs12 q131 q939) rfl rfl rfl hd_J3_checkElementIndex (cxH (by decide) (by decide))) rfl hl.1 rfl (Nat.le_of_ble_eq_true rfl) dJ3_get_2 ⟨Nat.le_of_ble_eq_true rfl, Nat.le_of_ble_eq_true rfl⟩ 0 0 rfl rfl (fun hp1 hE H locs hW => ?_)
  refine e_aload_n X hl 0 rfl dJ3_get_5 rfl ?_
  refine e_iload_n X hl 1 rfl dJ3_get_6 rfl ?_
  obtain ⟨⟨fs, he⟩, hE⟩ := hE
  refine h_callVR (rest := []) (As := [vI a1]) X hW he ck_J3 (mh_J3_node l G hp1 this a1 _ hE) (cwV 1 X.ht (lw_V q944 q845 q846 q131 q847) rfl rfl rfl hd_J3_node (cxH (by decide) (by decide))) rfl hl.1 rfl (Nat.le_of_ble_eq_true rfl) dJ3_get_7 ⟨Nat.le_of_ble_eq_true rfl, Nat.le_of_ble_eq_true rfl⟩ 0 0 rfl rfl (fun r3 hp2 hE H locs hW => ?_)
  refine h_nn0 hE (fun b4 hE => ?_)
  refine h_getR X hW ck_J36 (k := 0) hE (by decide) q1399 (fun _ h => h) dJ3_get_10 (fun r5 hE => ?_)
  exact h_rret (r := r5) X hW (Or.inl ⟨_, rfl⟩) hE (Nat.le_of_ble_eq_true rfl) (Nat.le_of_ble_eq_true rfl) dJ3_get_13
theorem mh_J3_get (l : Launch) (G : GG) (hp : HP) (this : Nat) (a1 : Int) (Q : Option Nat → HP → Prop) (hE : w_J3_get G hp this a1 Q) : MH l yJ3_get (ws_ yJ3_get cJ3_get 2 (some (.object "java/lang/Object"))) 2 0 0 G [.ref this, vI a1] hp (pR Q) :=
  MH.of (by decide +kernel) (Nat.le_of_ble_eq_true rfl) rfl (fun p e s m below meth c ls X hin hW hl => wb_J3_get X hE hW hl)
def w_J3_clear_L5 (G : GG) (this : Nat) (k : HP → Option Nat → Prop) : Nat → HP → Option Nat → Prop
  | 0, _, _ => False
  | n + 1, hp, x1 =>
    hIf (x1 = none) (k hp x1) (hNn x1 fun b2 => hR hp b2 27 1 fun r3 => hNn x1 fun b4 => hPut hp b4 27 0 (va_rf none) fun hp5 => hNn x1 fun b6 => hPut hp5 b6 27 1 (va_rf none) fun hp7 => hNn x1 fun b8 => hPut hp7 b8 27 2 (va_rf none) fun hp9 => w_J3_clear_L5 G this k n hp9 r3)
def w_J3_clear (G : GG) (hp : HP) (this : Nat) (Q : HP → Prop) : Prop :=
  hR hp this 12 2 fun r1 => ∃ n : Nat, w_J3_clear_L5 G this (fun (hp10 : HP) (r11 : Option Nat) => hPut hp10 this 12 3 (va_rf none) fun hp12 => hPut hp12 this 12 2 (va_rf none) fun hp13 => hPut hp13 this 12 1 (vI 0) fun hp14 => hI hp14 this 12 0 fun v15 => hPut hp14 this 12 0 (vI (v15 + 1)) fun hp16 => Q hp16) n hp r1
theorem hd_J3_clear : yJ3_clear.cls = RJ3 ∧ yJ3_clear.cls ≠ "java/lang/invoke/MethodHandle" ∧ yJ3_clear.cls ≠ "java/lang/invoke/VarHandle" ∧ (parseMethodDescriptor yJ3_clear.desc).map (fun d => d.parameters.length) = some 0 := by decide +kernel
theorem wl_J3_clear_5 {p : Program} {l : Launch} {e : Env} {s : State} {m : MethodId} {args : Array Value} {below : List Frame} {meth : Method} {c : Code} {G : GG} (X : CX p s m args meth c cJ3_clear 3 RJ3 none G) {Q : HP → Prop} {this : Nat} {k : HP → Option Nat → Prop} : ∀ (n : Nat) (hp : HP) (x1 : Option Nat) (H : Heap) (locs : List Loc) (ls : Array Slot) (hE : w_J3_clear_L5 G this k n hp x1) (hW : WH G hp H locs) (hl : lv_has ls 3 [(0, .ref this), (1, va_rf x1)]) (hk : ∀ (hp : HP) (x1 : Option Nat) (H : Heap) (locs : List Loc) (ls : Array Slot), WH G hp H locs → lv_has ls 3 [(0, .ref this), (1, va_rf x1)] → k hp x1 → W p l e (rmA 0 0 0) s m args below meth c H locs 0 0 (QH below G args s 0 0 (pV Q)) (F0 m 34 ls [])), W p l e (rmA 0 0 0) s m args below meth c H locs 0 0 (QH below G args s 0 0 (pV Q)) (F0 m 5 ls []) := by
  intro n
  induction n with
  | zero =>
    intro hp x1 H locs ls hE hW hl hk
    unfold w_J3_clear_L5 at hE
    exact hE.elim
  | succ n ih =>
    intro hp x1 H locs ls hE hW hl hk
    unfold w_J3_clear_L5 at hE
    refine e_aloadR_n X hl 1 rfl dJ3_clear_5 rfl ?_
    refine h_ifnull X (r := x1) hE dJ3_clear_6 rfl (fun hE => ?_) (fun hE => ?_)
    · exact hk hp x1 _ _ _ hW (lv_sub hl [0, 1] rfl) hE
    · refine e_aloadR_n X hl 1 rfl dJ3_clear_9 rfl ?_
      refine h_nn0 hE (fun b2 hE => ?_)
      refine h_getR X hW ck_J36 (k := 1) hE (by decide) q1402 (fun _ h => h) dJ3_clear_10 (fun r3 hE => ?_)
      refine e_astoreR_n X hl [(2, va_rf r3), (0, .ref this), (1, va_rf x1)] dJ3_clear_13 rfl (by decide) (by generalize x1 = r; cases r <;> rfl) (fun ls hl => ?_)
      refine e_aloadR_n X hl 2 rfl dJ3_clear_14 rfl ?_
      refine e_nullw X dJ3_clear_15 ?_
      refine h_nn1 hE (fun b4 hE => ?_)
      refine h_put X hW ck_J36 (k := 0) hE (by decide) q1399 (fun _ h => h) rfl rfl (fit_R none) dJ3_clear_16 (fun hp5 hE H locs hW => ?_)
      refine e_aloadR_n X hl 2 rfl dJ3_clear_19 rfl ?_
      refine e_nullw X dJ3_clear_20 ?_
      refine h_nn1 hE (fun b6 hE => ?_)
      refine h_put X hW ck_J36 (k := 1) hE (by decide) q1402 (fun _ h => h) rfl rfl (fit_R none) dJ3_clear_21 (fun hp7 hE H locs hW => ?_)
      refine e_aloadR_n X hl 2 rfl dJ3_clear_24 rfl ?_
      refine e_nullw X dJ3_clear_25 ?_
      refine h_nn1 hE (fun b8 hE => ?_)
      refine h_put X hW ck_J36 (k := 2) hE (by decide) q1404 (fun _ h => h) rfl rfl (fit_R none) dJ3_clear_26 (fun hp9 hE H locs hW => ?_)
      refine e_aloadR_n X hl 0 rfl dJ3_clear_29 rfl ?_
      refine e_astoreR_n X hl [(1, va_rf r3), (2, va_rf r3), (0, .ref this)] dJ3_clear_30 rfl (by decide) rfl (fun ls hl => ?_)
      refine e_goto X dJ3_clear_31 rfl ?_
      exact ih hp9 r3 _ _ _ hE hW (lv_sub hl [2, 0] rfl) hk
theorem wb_J3_clear {p : Program} {l : Launch} {e : Env} {s : State} {m : MethodId} {args : Array Value} {below : List Frame} {meth : Method} {c : Code} {G : GG} (X : CX p s m args meth c cJ3_clear 3 RJ3 none G) {Q : HP → Prop} {hp : HP} {this : Nat} (hE : w_J3_clear G hp this Q) {H : Heap} {locs : List Loc} {ls : Array Slot} (hW : WH G hp H locs) (hl : lv_has ls 3 [(0, .ref this)]) : W p l e (rmA 0 0 0) s m args below meth c H locs 0 0 (QH below G args s 0 0 (pV Q)) (F0 m 0 ls []) := by
  unfold w_J3_clear at hE
  refine e_aload_n X hl 0 rfl dJ3_clear_0 rfl ?_
  refine h_getR X hW ck_J3 (k := 2) hE (by decide) q223 (fun _ h => h) dJ3_clear_1 (fun r1 hE => ?_)
  refine e_astoreR_n X hl [(1, va_rf r1), (0, .ref this)] dJ3_clear_4 rfl (by decide) rfl (fun ls hl => ?_)
  obtain ⟨n, hE⟩ := hE
  refine wl_J3_clear_5 X n hp r1 _ _ _ hE hW (lv_sub hl [1, 0] rfl) (fun hp10 r11 H locs ls hW hl hE => ?_)
  refine e_aload_n X hl 0 rfl dJ3_clear_34 rfl ?_
  refine e_aload_n X hl 0 rfl dJ3_clear_35 rfl ?_
  refine e_nullw X dJ3_clear_36 ?_
  refine e_dup_x1 X dJ3_clear_37 (va_rf_cat _) rfl ?_
  refine h_put X hW ck_J3 (k := 3) hE (by decide) q224 (fun _ h => h) rfl rfl (fit_R none) dJ3_clear_38 (fun hp12 hE H locs hW => ?_)
  refine h_put X hW ck_J3 (k := 2) hE (by decide) q223 (fun _ h => h) rfl rfl (fit_R none) dJ3_clear_41 (fun hp13 hE H locs hW => ?_)
  refine e_aload_n X hl 0 rfl dJ3_clear_44 rfl ?_
  refine e_iconst X dJ3_clear_45 ?_
  refine h_put X hW ck_J3 (k := 1) hE (by decide) q221 (fun _ h => h) rfl rfl (fit_I _) dJ3_clear_46 (fun hp14 hE H locs hW => ?_)
  refine e_aload_n X hl 0 rfl dJ3_clear_49 rfl ?_
  refine e_dup X dJ3_clear_50 rfl ?_
  refine h_getI X hW ck_J3 (k := 0) hE (by decide) q229 (fun x h => u_same (X.ht _ q227) x h) dJ3_clear_51 (fun v15 hE => ?_)
  refine e_iconst X dJ3_clear_54 ?_
  refine e_iadd X dJ3_clear_55 ?_
  refine h_put X hW ck_J3 (k := 0) hE (by decide) q229 (fun x h => u_same (X.ht _ q227) x h) rfl rfl (fit_I _) dJ3_clear_56 (fun hp16 hE H locs hW => ?_)
  exact h_vret X hW hE (Nat.le_of_ble_eq_true rfl) (Nat.le_of_ble_eq_true rfl) dJ3_clear_59
theorem mh_J3_clear (l : Launch) (G : GG) (hp : HP) (this : Nat) (Q : HP → Prop) (hE : w_J3_clear G hp this Q) : MH l yJ3_clear (ws_ yJ3_clear cJ3_clear 3 none) 0 0 0 G [.ref this] hp (pV Q) :=
  MH.of (by decide +kernel) (Nat.le_of_ble_eq_true rfl) rfl (fun p e s m below meth c ls X hin hW hl => wb_J3_clear X hE hW hl)
def w_J3_linkLast (G : GG) (hp : HP) (this : Nat) (a1 : Option Nat) (Q : HP → Prop) : Prop :=
  hR hp this 12 3 fun r1 => hNew hp 27 df_J36 fun hp2 q3 => w_J36_init G hp2 q3 r1 a1 none (fun hp4 => hPut hp4 this 12 3 (.ref q3) fun hp5 => hJn (fun (hp7 : HP) => hI hp7 this 12 1 fun v8 => hPut hp7 this 12 1 (vI (v8 + 1)) fun hp9 => hI hp9 this 12 0 fun v10 => hPut hp9 this 12 0 (vI (v10 + 1)) fun hp11 => Q hp11) fun kj6 => hIf (¬ r1 = none) (hNn r1 fun b12 => hPut hp5 b12 27 1 (.ref q3) fun hp13 => kj6 hp13) (hPut hp5 this 12 2 (.ref q3) fun hp14 => kj6 hp14))
theorem hd_J3_linkLast : yJ3_linkLast.cls = RJ3 ∧ yJ3_linkLast.cls ≠ "java/lang/invoke/MethodHandle" ∧ yJ3_linkLast.cls ≠ "java/lang/invoke/VarHandle" ∧ (parseMethodDescriptor yJ3_linkLast.desc).map (fun d => d.parameters.length) = some 1 := by decide +kernel
theorem wb_J3_linkLast {p : Program} {l : Launch} {e : Env} {s : State} {m : MethodId} {args : Array Value} {below : List Frame} {meth : Method} {c : Code} {G : GG} (X : CX p s m args meth c cJ3_linkLast 4 RJ3 none G) {Q : HP → Prop} {hp : HP} {this : Nat} {a1 : Option Nat} (hE : w_J3_linkLast G hp this a1 Q) {H : Heap} {locs : List Loc} {ls : Array Slot} (hW : WH G hp H locs) (hl : lv_has ls 4 [(0, .ref this), (1, va_rf a1)]) : W p l e (rmA 2 1 3) s m args below meth c H locs 0 0 (QH below G args s 1 3 (pV Q)) (F0 m 0 ls []) := by
  unfold w_J3_linkLast at hE
  refine e_aload_n X hl 0 rfl dJ3_linkLast_0 rfl ?_
  refine h_getR X hW ck_J3 (k := 3) hE (by decide) q224 (fun _ h => h) dJ3_linkLast_1 (fun r1 hE => ?_)
  refine e_astoreR_n X hl [(2, va_rf r1), (0, .ref this), (1, va_rf a1)] dJ3_linkLast_4 rfl (by decide) (by generalize a1 = r; cases r <;> rfl) (fun ls hl => ?_)
  refine h_new X hW ck_J36 hE q1391 q1392 q173 dflt_J36 (Nat.le_of_ble_eq_true rfl) (Nat.le_of_ble_eq_true rfl) 1 3 rfl rfl dJ3_linkLast_5 (fun hp2 q3 hE H locs hW => ?_)
  refine e_dup X dJ3_linkLast_8 rfl ?_
  refine e_aloadR_n X hl 0 rfl dJ3_linkLast_9 rfl ?_
  refine e_aloadR_n X hl 2 rfl dJ3_linkLast_10 rfl ?_
  refine e_nullw X dJ3_linkLast_11 ?_
  refine h_callI (rest := [.ref q3]) (As := [va_rf r1, va_rf a1, va_rf none]) X hW (mh_J36_init l G hp2 q3 r1 a1 none _ hE) (cwI 3 X.ht (lw_meth q1395) rfl rfl rfl (X.ht _ q173) (X.ht _ q1393) (X.ht _ q1394) rfl hd_J36_init (cxH (by decide) (by decide))) rfl hl.1 rfl (Nat.le_of_ble_eq_true rfl) dJ3_linkLast_12 ⟨Nat.le_of_ble_eq_true rfl, Nat.le_of_ble_eq_true rfl⟩ 1 3 rfl rfl (fun hp4 hE H locs hW => ?_)
  refine e_astore_n X hl [(3, .ref q3), (2, va_rf r1), (0, .ref this), (1, va_rf a1)] dJ3_linkLast_15 rfl (by decide) (by generalize r1 = r; cases r <;> rfl) (fun ls hl => ?_)
  refine e_aload_n X hl 2 rfl dJ3_linkLast_16 rfl ?_
  refine e_aload_n X hl 0 rfl dJ3_linkLast_17 rfl ?_
  refine h_put X hW ck_J3 (k := 3) hE (by decide) q224 (fun _ h => h) rfl rfl (fit_R (some q3)) dJ3_linkLast_18 (fun hp5 hE H locs hW => ?_)
  refine e_aloadR_n X hl 1 rfl dJ3_linkLast_21 rfl ?_
  obtain ⟨kj6, hkj6, hE⟩ := h_jn hE
  have hjkj6 : ∀ (hp7 : HP) (H : Heap) (locs : List Loc) (ls : Array Slot), WH G hp7 H locs → lv_has ls 4 [(0, .ref this)] → kj6 hp7 → W p l e (rmA 2 1 3) s m args below meth c H locs 1 3 (QH below G args s 1 3 (pV Q)) (F0 m 38 ls []) := by
    intro hp7 H locs ls hW hl hE
    subst hkj6
    refine e_aload_n X hl 0 rfl dJ3_linkLast_38 rfl ?_
    refine e_dup X dJ3_linkLast_39 rfl ?_
    refine h_getI X hW ck_J3 (k := 1) hE (by decide) q221 (fun _ h => h) dJ3_linkLast_40 (fun v8 hE => ?_)
    refine e_iconst X dJ3_linkLast_43 ?_
    refine e_iadd X dJ3_linkLast_44 ?_
    refine h_put X hW ck_J3 (k := 1) hE (by decide) q221 (fun _ h => h) rfl rfl (fit_I _) dJ3_linkLast_45 (fun hp9 hE H locs hW => ?_)
    refine e_aload_n X hl 0 rfl dJ3_linkLast_48 rfl ?_
    refine e_dup X dJ3_linkLast_49 rfl ?_
    refine h_getI X hW ck_J3 (k := 0) hE (by decide) q229 (fun x h => u_same (X.ht _ q227) x h) dJ3_linkLast_50 (fun v10 hE => ?_)
    refine e_iconst X dJ3_linkLast_53 ?_
    refine e_iadd X dJ3_linkLast_54 ?_
    refine h_put X hW ck_J3 (k := 0) hE (by decide) q229 (fun x h => u_same (X.ht _ q227) x h) rfl rfl (fit_I _) dJ3_linkLast_55 (fun hp11 hE H locs hW => ?_)
    exact h_vret X hW hE (Nat.le_of_ble_eq_true rfl) (Nat.le_of_ble_eq_true rfl) dJ3_linkLast_58
  refine h_ifnonnull X (r := r1) hE dJ3_linkLast_22 rfl (fun hE => ?_) (fun hE => ?_)
  · refine e_aloadR_n X hl 1 rfl dJ3_linkLast_33 rfl ?_
    refine e_aload_n X hl 0 rfl dJ3_linkLast_34 rfl ?_
    refine h_nn1 hE (fun b12 hE => ?_)
    refine h_put X hW ck_J36 (k := 1) hE (by decide) q1402 (fun _ h => h) rfl rfl (fit_R (some q3)) dJ3_linkLast_35 (fun hp13 hE H locs hW => ?_)
    exact hjkj6 hp13 _ _ _ hW (lv_sub hl [2] rfl) hE
  · refine e_aload_n X hl 2 rfl dJ3_linkLast_25 rfl ?_
    refine e_aload_n X hl 0 rfl dJ3_linkLast_26 rfl ?_
    refine h_put X hW ck_J3 (k := 2) hE (by decide) q223 (fun _ h => h) rfl rfl (fit_R (some q3)) dJ3_linkLast_27 (fun hp14 hE H locs hW => ?_)
    refine e_goto X dJ3_linkLast_30 rfl ?_
    exact hjkj6 hp14 _ _ _ hW (lv_sub hl [2] rfl) hE
theorem mh_J3_linkLast (l : Launch) (G : GG) (hp : HP) (this : Nat) (a1 : Option Nat) (Q : HP → Prop) (hE : w_J3_linkLast G hp this a1 Q) : MH l yJ3_linkLast (ws_ yJ3_linkLast cJ3_linkLast 4 none) 2 1 3 G [.ref this, va_rf a1] hp (pV Q) :=
  MH.of (by decide +kernel) (by cases a1 <;> exact Nat.le_of_ble_eq_true rfl) (lv := [(0, .ref this), (1, va_rf a1)]) (by cases a1 <;> rfl) (fun p e s m below meth c ls X hin hW hl => wb_J3_linkLast X hE hW hl)
def w_J3_addLast (G : GG) (hp : HP) (this : Nat) (a1 : Option Nat) (Q : HP → Prop) : Prop :=
  hIs hp this 12 (w_J3_linkLast G hp this a1 (fun hp1 => Q hp1))
theorem hd_J3_addLast : yJ3_addLast.cls = RJ3 ∧ yJ3_addLast.cls ≠ "java/lang/invoke/MethodHandle" ∧ yJ3_addLast.cls ≠ "java/lang/invoke/VarHandle" ∧ (parseMethodDescriptor yJ3_addLast.desc).map (fun d => d.parameters.length) = some 1 := by decide +kernel
theorem wb_J3_addLast {p : Program} {l : Launch} {e : Env} {s : State} {m : MethodId} {args : Array Value} {below : List Frame} {meth : Method} {c : Code} {G : GG} (X : CX p s m args meth c cJ3_addLast 2 RJ3 none G) {Q : HP → Prop} {hp : HP} {this : Nat} {a1 : Option Nat} (hE : w_J3_addLast G hp this a1 Q) {H : Heap} {locs : List Loc} {ls : Array Slot} (hW : WH G hp H locs) (hl : lv_has ls 2 [(0, .ref this), (1, va_rf a1)]) : W p l e (rmA 3 1 3) s m args below meth c H locs 0 0 (QH below G args s 1 3 (pV Q)) (F0 m 0 ls []) := by
  unfold w_J3_addLast at hE
  refine e_aload_n X hl 0 rfl dJ3_addLast_0 rfl ?_
  refine e_aloadR_n X hl 1 rfl dJ3_addLast_1 rfl ?_
  obtain ⟨⟨fs, he⟩, hE⟩ := hE
  refine h_callVV (rest := []) (As := [va_rf a1]) X hW he ck_J3 (mh_J3_linkLast l G hp this a1 _ hE) (cwV 1 X.ht (lw_V q1387 q1388 q1389 q131 q1390) rfl rfl rfl hd_J3_linkLast (cxH (by decide) (by decide))) rfl hl.1 rfl (Nat.le_of_ble_eq_true rfl) dJ3_addLast_2 ⟨Nat.le_of_ble_eq_true rfl, Nat.le_of_ble_eq_true rfl⟩ 1 3 rfl rfl (fun hp1 hE H locs hW => ?_)
  exact h_vret X hW hE (Nat.le_of_ble_eq_true rfl) (Nat.le_of_ble_eq_true rfl) dJ3_addLast_5
theorem mh_J3_addLast (l : Launch) (G : GG) (hp : HP) (this : Nat) (a1 : Option Nat) (Q : HP → Prop) (hE : w_J3_addLast G hp this a1 Q) : MH l yJ3_addLast (ws_ yJ3_addLast cJ3_addLast 2 none) 3 1 3 G [.ref this, va_rf a1] hp (pV Q) :=
  MH.of (by decide +kernel) (by cases a1 <;> exact Nat.le_of_ble_eq_true rfl) (lv := [(0, .ref this), (1, va_rf a1)]) (by cases a1 <;> rfl) (fun p e s m below meth c ls X hin hW hl => wb_J3_addLast X hE hW hl)
def w_J3_unlink (G : GG) (hp : HP) (this : Nat) (a1 : Option Nat) (Q : Option Nat → HP → Prop) : Prop :=
  hNn a1 fun b1 => hR hp b1 27 0 fun r2 => hNn a1 fun b3 => hR hp b3 27 1 fun r4 => hNn a1 fun b5 => hR hp b5 27 2 fun r6 => hJn (fun (hp8 : HP) => hJn (fun (hp10 : HP) => hNn a1 fun b11 => hPut hp10 b11 27 0 (va_rf none) fun hp12 => hI hp12 this 12 1 fun v13 => hPut hp12 this 12 1 (vI (v13 - 1)) fun hp14 => hI hp14 this 12 0 fun v15 => hPut hp14 this 12 0 (vI (v15 + 1)) fun hp16 => Q r2 hp16) fun kj9 => hIf (¬ r4 = none) (hNn r4 fun b17 => hPut hp8 b17 27 2 (va_rf r6) fun hp18 => hNn a1 fun b19 => hPut hp18 b19 27 1 (va_rf none) fun hp20 => kj9 hp20) (hPut hp8 this 12 3 (va_rf r6) fun hp21 => kj9 hp21)) fun kj7 => hIf (¬ r6 = none) (hNn r6 fun b22 => hPut hp b22 27 1 (va_rf r4) fun hp23 => hNn a1 fun b24 => hPut hp23 b24 27 2 (va_rf none) fun hp25 => kj7 hp25) (hPut hp this 12 2 (va_rf r4) fun hp26 => kj7 hp26)
theorem hd_J3_unlink : yJ3_unlink.cls = RJ3 ∧ yJ3_unlink.cls ≠ "java/lang/invoke/MethodHandle" ∧ yJ3_unlink.cls ≠ "java/lang/invoke/VarHandle" ∧ (parseMethodDescriptor yJ3_unlink.desc).map (fun d => d.parameters.length) = some 1 := by decide +kernel
theorem wb_J3_unlink {p : Program} {l : Launch} {e : Env} {s : State} {m : MethodId} {args : Array Value} {below : List Frame} {meth : Method} {c : Code} {G : GG} (X : CX p s m args meth c cJ3_unlink 5 RJ3 (some (.object "java/lang/Object")) G) {Q : Option Nat → HP → Prop} {hp : HP} {this : Nat} {a1 : Option Nat} (hE : w_J3_unlink G hp this a1 Q) {H : Heap} {locs : List Loc} {ls : Array Slot} (hW : WH G hp H locs) (hl : lv_has ls 5 [(0, .ref this), (1, va_rf a1)]) : W p l e (rmA 0 0 0) s m args below meth c H locs 0 0 (QH below G args s 0 0 (pR Q)) (F0 m 0 ls []) := by
  unfold w_J3_unlink at hE
  refine e_aloadR_n X hl 1 rfl dJ3_unlink_0 rfl ?_
  refine h_nn0 hE (fun b1 hE => ?_)
  refine h_getR X hW ck_J36 (k := 0) hE (by decide) q1399 (fun _ h => h) dJ3_unlink_1 (fun r2 hE => ?_)
  refine e_astoreR_n X hl [(2, va_rf r2), (0, .ref this), (1, va_rf a1)] dJ3_unlink_4 rfl (by decide) (by generalize a1 = r; cases r <;> rfl) (fun ls hl => ?_)
  refine e_aloadR_n X hl 2 rfl dJ3_unlink_5 rfl ?_
  refine h_nn0 hE (fun b3 hE => ?_)
  refine h_getR X hW ck_J36 (k := 1) hE (by decide) q1402 (fun _ h => h) dJ3_unlink_6 (fun r4 hE => ?_)
  refine e_astoreR_n X hl [(3, va_rf r4), (2, va_rf r2), (0, .ref this), (1, va_rf a1)] dJ3_unlink_9 rfl (by decide) (by generalize r2 = r; cases r <;> rfl) (fun ls hl => ?_)
  refine e_aloadR_n X hl 3 rfl dJ3_unlink_10 rfl ?_
  refine h_nn0 hE (fun b5 hE => ?_)
  refine h_getR X hW ck_J36 (k := 2) hE (by decide) q1404 (fun _ h => h) dJ3_unlink_11 (fun r6 hE => ?_)
  refine e_astoreR X hl [(4, va_rf r6), (3, va_rf r4), (2, va_rf r2), (0, .ref this), (1, va_rf a1)] dJ3_unlink_14 (by decide) (by generalize r4 = r; cases r <;> rfl) (fun ls hl => ?_)
  refine e_aloadR X hl 0 rfl dJ3_unlink_16 ?_
  obtain ⟨kj7, hkj7, hE⟩ := h_jn hE
  have hjkj7 : ∀ (hp8 : HP) (H : Heap) (locs : List Loc) (ls : Array Slot), WH G hp8 H locs → lv_has ls 5 [(0, .ref this), (1, va_rf a1), (2, va_rf r2), (3, va_rf r4), (4, va_rf r6)] → kj7 hp8 → W p l e (rmA 0 0 0) s m args below meth c H locs 0 0 (QH below G args s 0 0 (pR Q)) (F0 m 40 ls []) := by
    intro hp8 H locs ls hW hl hE
    subst hkj7
    refine e_aloadR_n X hl 3 rfl dJ3_unlink_40 rfl ?_
    obtain ⟨kj9, hkj9, hE⟩ := h_jn hE
    have hjkj9 : ∀ (hp10 : HP) (H : Heap) (locs : List Loc) (ls : Array Slot), WH G hp10 H locs → lv_has ls 5 [(0, .ref this), (1, va_rf a1), (2, va_rf r2)] → kj9 hp10 → W p l e (rmA 0 0 0) s m args below meth c H locs 0 0 (QH below G args s 0 0 (pR Q)) (F0 m 64 ls []) := by
      intro hp10 H locs ls hW hl hE
      subst hkj9
      refine e_aloadR_n X hl 1 rfl dJ3_unlink_64 rfl ?_
      refine e_nullw X dJ3_unlink_65 ?_
      refine h_nn1 hE (fun b11 hE => ?_)
      refine h_put X hW ck_J36 (k := 0) hE (by decide) q1399 (fun _ h => h) rfl rfl (fit_R none) dJ3_unlink_66 (fun hp12 hE H locs hW => ?_)
      refine e_aload_n X hl 0 rfl dJ3_unlink_69 rfl ?_
      refine e_dup X dJ3_unlink_70 rfl ?_
      refine h_getI X hW ck_J3 (k := 1) hE (by decide) q221 (fun _ h => h) dJ3_unlink_71 (fun v13 hE => ?_)
      refine e_iconst X dJ3_unlink_74 ?_
      refine e_isub X dJ3_unlink_75 ?_
      refine h_put X hW ck_J3 (k := 1) hE (by decide) q221 (fun _ h => h) rfl rfl (fit_I _) dJ3_unlink_76 (fun hp14 hE H locs hW => ?_)
      refine e_aload_n X hl 0 rfl dJ3_unlink_79 rfl ?_
      refine e_dup X dJ3_unlink_80 rfl ?_
      refine h_getI X hW ck_J3 (k := 0) hE (by decide) q229 (fun x h => u_same (X.ht _ q227) x h) dJ3_unlink_81 (fun v15 hE => ?_)
      refine e_iconst X dJ3_unlink_84 ?_
      refine e_iadd X dJ3_unlink_85 ?_
      refine h_put X hW ck_J3 (k := 0) hE (by decide) q229 (fun x h => u_same (X.ht _ q227) x h) rfl rfl (fit_I _) dJ3_unlink_86 (fun hp16 hE H locs hW => ?_)
      refine e_aloadR_n X hl 2 rfl dJ3_unlink_89 rfl ?_
      exact h_rret (r := r2) X hW (Or.inl ⟨_, rfl⟩) hE (Nat.le_of_ble_eq_true rfl) (Nat.le_of_ble_eq_true rfl) dJ3_unlink_90
    refine h_ifnonnull X (r := r4) hE dJ3_unlink_41 rfl (fun hE => ?_) (fun hE => ?_)
    · refine e_aloadR_n X hl 3 rfl dJ3_unlink_53 rfl ?_
      refine e_aloadR X hl 4 rfl dJ3_unlink_54 ?_
      refine h_nn1 hE (fun b17 hE => ?_)
      refine h_put X hW ck_J36 (k := 2) hE (by decide) q1404 (fun _ h => h) rfl rfl (fit_R r6) dJ3_unlink_56 (fun hp18 hE H locs hW => ?_)
      refine e_aloadR_n X hl 1 rfl dJ3_unlink_59 rfl ?_
      refine e_nullw X dJ3_unlink_60 ?_
      refine h_nn1 hE (fun b19 hE => ?_)
      refine h_put X hW ck_J36 (k := 1) hE (by decide) q1402 (fun _ h => h) rfl rfl (fit_R none) dJ3_unlink_61 (fun hp20 hE H locs hW => ?_)
      exact hjkj9 hp20 _ _ _ hW (lv_sub hl [0, 1, 2] rfl) hE
    · refine e_aload_n X hl 0 rfl dJ3_unlink_44 rfl ?_
      refine e_aloadR X hl 4 rfl dJ3_unlink_45 ?_
      refine h_put X hW ck_J3 (k := 3) hE (by decide) q224 (fun _ h => h) rfl rfl (fit_R r6) dJ3_unlink_47 (fun hp21 hE H locs hW => ?_)
      refine e_goto X dJ3_unlink_50 rfl ?_
      exact hjkj9 hp21 _ _ _ hW (lv_sub hl [0, 1, 2] rfl) hE
  refine h_ifnonnull X (r := r6) hE dJ3_unlink_18 rfl (fun hE => ?_) (fun hE => ?_)
  · refine e_aloadR X hl 0 rfl dJ3_unlink_29 ?_
    refine e_aloadR_n X hl 1 rfl dJ3_unlink_31 rfl ?_
    refine h_nn1 hE (fun b22 hE => ?_)
    refine h_put X hW ck_J36 (k := 1) hE (by decide) q1402 (fun _ h => h) rfl rfl (fit_R r4) dJ3_unlink_32 (fun hp23 hE H locs hW => ?_)
    refine e_aloadR_n X hl 4 rfl dJ3_unlink_35 rfl ?_
    refine e_nullw X dJ3_unlink_36 ?_
    refine h_nn1 hE (fun b24 hE => ?_)
    refine h_put X hW ck_J36 (k := 2) hE (by decide) q1404 (fun _ h => h) rfl rfl (fit_R none) dJ3_unlink_37 (fun hp25 hE H locs hW => ?_)
    exact hjkj7 hp25 _ _ _ hW (lv_sub hl [3, 4, 2, 1, 0] rfl) hE
  · refine e_aload_n X hl 3 rfl dJ3_unlink_21 rfl ?_
    refine e_aloadR_n X hl 1 rfl dJ3_unlink_22 rfl ?_
    refine h_put X hW ck_J3 (k := 2) hE (by decide) q223 (fun _ h => h) rfl rfl (fit_R r4) dJ3_unlink_23 (fun hp26 hE H locs hW => ?_)
    refine e_goto X dJ3_unlink_26 rfl ?_
    exact hjkj7 hp26 _ _ _ hW (lv_sub hl [3, 4, 2, 1, 0] rfl) hE
theorem mh_J3_unlink (l : Launch) (G : GG) (hp : HP) (this : Nat) (a1 : Option Nat) (Q : Option Nat → HP → Prop) (hE : w_J3_unlink G hp this a1 Q) : MH l yJ3_unlink (ws_ yJ3_unlink cJ3_unlink 5 (some (.object "java/lang/Object"))) 0 0 0 G [.ref this, va_rf a1] hp (pR Q) :=
  MH.of (by decide +kernel) (by cases a1 <;> exact Nat.le_of_ble_eq_true rfl) (lv := [(0, .ref this), (1, va_rf a1)]) (by cases a1 <;> rfl) (fun p e s m below meth c ls X hin hW hl => wb_J3_unlink X hE hW hl)
def w_J24_init (G : GG) (hp : HP) (this : Nat) (a1 : Option Nat) (a2 : Int) (Q : HP → Prop) : Prop :=
  hPut hp this 21 4 (va_rf a1) fun hp1 => hR hp1 this 21 4 fun r2 => hNn r2 fun b3 => hI hp1 b3 12 0 fun v4 => hPut hp1 this 21 3 (vI v4) fun hp5 => hNn a1 fun b6 => hI hp5 b6 12 1 fun v7 => hIf (¬ w32 a2 = w32 v7) (hNn a1 fun b8 => hIs hp5 b8 12 (w_J3_node G hp5 b8 a2 (fun r10 hp9 => hPut hp9 this 21 1 (va_rf r10) fun hp11 => hPut hp11 this 21 2 (vI a2) fun hp12 => Q hp12))) (hPut hp5 this 21 1 (va_rf none) fun hp13 => hPut hp13 this 21 2 (vI a2) fun hp14 => Q hp14)
theorem hd_J24_init : yJ24_init.cls ≠ "java/lang/invoke/MethodHandle" ∧ yJ24_init.cls ≠ "java/lang/invoke/VarHandle" ∧ (parseMethodDescriptor yJ24_init.desc).map (fun d => d.parameters.length) = some 2 := by decide +kernel
theorem wb_J24_init {p : Program} {l : Launch} {e : Env} {s : State} {m : MethodId} {args : Array Value} {below : List Frame} {meth : Method} {c : Code} {G : GG} (X : CX p s m args meth c cJ24_init 3 RJ24 none G) (hin : meth.name = "<init>") {Q : HP → Prop} {hp : HP} {this : Nat} {a1 : Option Nat} {a2 : Int} (hE : w_J24_init G hp this a1 a2 Q) {H : Heap} {locs : List Loc} {ls : Array Slot} (hW : WH G hp H locs) (hl : lv_has ls 3 [(0, .ref this), (1, va_rf a1), (2, vI a2)]) : W p l e (rmA 1 0 0) s m args below meth c H locs 0 0 (QH below G args s 0 0 (pV Q)) (F0 m 0 ls []) := by
  unfold w_J24_init at hE
  refine e_aload_n X hl 0 rfl dJ24_init_0 rfl ?_
  refine e_aloadR_n X hl 1 rfl dJ24_init_1 rfl ?_
  refine h_putF X hW ck_J24 (k := 4) hE (by decide) q852 (fun _ h => h) rfl hin rfl rfl (fit_R a1) dJ24_init_2 (fun hp1 hE H locs hW => ?_)
  refine e_aload_n X hl 0 rfl dJ24_init_5 rfl ?_
  refine h_objInit X hl.1 q843 (Nat.le_of_ble_eq_true rfl) dJ24_init_6 q204 q205 (by decide) ?_
  refine e_aload_n X hl 0 rfl dJ24_init_9 rfl ?_
  refine e_aload_n X hl 0 rfl dJ24_init_10 rfl ?_
  refine h_getR X hW ck_J24 (k := 4) hE (by decide) q852 (fun _ h => h) dJ24_init_11 (fun r2 hE => ?_)
  refine h_nn0 hE (fun b3 hE => ?_)
  refine h_getI X hW ck_J3 (k := 0) hE (by decide) q226 (fun x h => u_same (X.ht _ q227) x h) dJ24_init_14 (fun v4 hE => ?_)
  refine h_put X hW ck_J24 (k := 3) hE (by decide) q851 (fun _ h => h) rfl rfl (fit_I _) dJ24_init_17 (fun hp5 hE H locs hW => ?_)
  refine e_aload_n X hl 0 rfl dJ24_init_20 rfl ?_
  refine e_iload_n X hl 2 rfl dJ24_init_21 rfl ?_
  refine e_aloadR_n X hl 1 rfl dJ24_init_22 rfl ?_
  refine h_nn0 hE (fun b6 hE => ?_)
  refine h_getI X hW ck_J3 (k := 1) hE (by decide) q222 (fun _ h => h) dJ24_init_23 (fun v7 hE => ?_)
  refine h_icmp_ne X (w32 a2) (w32 v7) rfl rfl hE dJ24_init_26 rfl (fun hE => ?_) (fun hE => ?_)
  · refine e_aloadR_n X hl 1 rfl dJ24_init_33 rfl ?_
    refine e_iload_n X hl 2 rfl dJ24_init_34 rfl ?_
    refine h_nn1 hE (fun b8 hE => ?_)
    obtain ⟨⟨fs, he⟩, hE⟩ := hE
    refine h_callVR (rest := [.ref this]) (As := [vI a2]) X hW he ck_J3 (mh_J3_node l G hp5 b8 a2 _ hE) (cwV 1 X.ht (lw_V q844 q845 q846 q131 q847) rfl rfl rfl hd_J3_node (cxH (by decide) (by decide))) rfl hl.1 rfl (Nat.le_of_ble_eq_true rfl) dJ24_init_35 ⟨Nat.le_of_ble_eq_true rfl, Nat.le_of_ble_eq_true rfl⟩ 0 0 rfl rfl (fun r10 hp9 hE H locs hW => ?_)
    refine h_put X hW ck_J24 (k := 1) hE (by decide) q849 (fun _ h => h) rfl rfl (fit_R r10) dJ24_init_38 (fun hp11 hE H locs hW => ?_)
    refine e_aload_n X hl 0 rfl dJ24_init_41 rfl ?_
    refine e_iload_n X hl 2 rfl dJ24_init_42 rfl ?_
    refine h_put X hW ck_J24 (k := 2) hE (by decide) q850 (fun _ h => h) rfl rfl (fit_I _) dJ24_init_43 (fun hp12 hE H locs hW => ?_)
    exact h_vret X hW hE (Nat.le_of_ble_eq_true rfl) (Nat.le_of_ble_eq_true rfl) dJ24_init_46
  · refine e_nullw X dJ24_init_29 ?_
    refine e_goto X dJ24_init_30 rfl ?_
    refine h_put X hW ck_J24 (k := 1) hE (by decide) q849 (fun _ h => h) rfl rfl (fit_R none) dJ24_init_38 (fun hp13 hE H locs hW => ?_)
    refine e_aload_n X hl 0 rfl dJ24_init_41 rfl ?_
    refine e_iload_n X hl 2 rfl dJ24_init_42 rfl ?_
    refine h_put X hW ck_J24 (k := 2) hE (by decide) q850 (fun _ h => h) rfl rfl (fit_I _) dJ24_init_43 (fun hp14 hE H locs hW => ?_)
    exact h_vret X hW hE (Nat.le_of_ble_eq_true rfl) (Nat.le_of_ble_eq_true rfl) dJ24_init_46
theorem mh_J24_init (l : Launch) (G : GG) (hp : HP) (this : Nat) (a1 : Option Nat) (a2 : Int) (Q : HP → Prop) (hE : w_J24_init G hp this a1 a2 Q) : MH l yJ24_init (ws_ yJ24_init cJ24_init 3 none) 1 0 0 G [.ref this, va_rf a1, vI a2] hp (pV Q) :=
  MH.of (by decide +kernel) (by cases a1 <;> exact Nat.le_of_ble_eq_true rfl) (lv := [(0, .ref this), (1, va_rf a1), (2, vI a2)]) (by cases a1 <;> rfl) (fun p e s m below meth c ls X hin hW hl => wb_J24_init X hin hE hW hl)
def w_J3_listIterator (G : GG) (hp : HP) (this : Nat) (a1 : Int) (Q : Option Nat → HP → Prop) : Prop :=
  hIs hp this 12 (w_J3_checkPositionIndex G hp this a1 (fun hp1 => hNew hp1 21 df_J24 fun hp2 q3 => w_J24_init G hp2 q3 (some this) a1 (fun hp4 => Q (some q3) hp4)))
theorem hd_J3_listIterator : yJ3_listIterator.cls = RJ3 ∧ yJ3_listIterator.cls ≠ "java/lang/invoke/MethodHandle" ∧ yJ3_listIterator.cls ≠ "java/lang/invoke/VarHandle" ∧ (parseMethodDescriptor yJ3_listIterator.desc).map (fun d => d.parameters.length) = some 1 := by decide +kernel
theorem wb_J3_listIterator {p : Program} {l : Launch} {e : Env} {s : State} {m : MethodId} {args : Array Value} {below : List Frame} {meth : Method} {c : Code} {G : GG} (X : CX p s m args meth c cJ3_listIterator 2 RJ3 (some (.object "java/util/ListIterator")) G) {Q : Option Nat → HP → Prop} {hp : HP} {this : Nat} {a1 : Int} (hE : w_J3_listIterator G hp this a1 Q) {H : Heap} {locs : List Loc} {ls : Array Slot} (hW : WH G hp H locs) (hl : lv_has ls 2 [(0, .ref this), (1, vI a1)]) : W p l e (rmA 2 1 5) s m args below meth c H locs 0 0 (QH below G args s 1 5 (pR Q)) (F0 m 0 ls []) := by
  unfold w_J3_listIterator at hE
  refine e_aload_n X hl 0 rfl dJ3_listIterator_0 rfl ?_
  refine e_iload_n X hl 1 rfl dJ3_listIterator_1 rfl ?_
  obtain ⟨⟨fs, he⟩, hE⟩ := hE
  refine h_callVV (rest := []) (As := [vI a1]) X hW he ck_J3 (mh_J3_checkPositionIndex l G hp this a1 _ hE) (cwV 1 X.ht (lw_V q830 q832 qs10 q131 q833) rfl rfl rfl hd_J3_checkPositionIndex (cxH (by decide) (by decide))) rfl hl.1 rfl (Nat.le_of_ble_eq_true rfl) dJ3_listIterator_2 ⟨Nat.le_of_ble_eq_true rfl, Nat.le_of_ble_eq_true rfl⟩ 0 0 rfl rfl (fun hp1 hE H locs hW => ?_)
  refine h_new X hW ck_J24 hE q838 q839 q158 dflt_J24 (Nat.le_of_ble_eq_true rfl) (Nat.le_of_ble_eq_true rfl) 1 5 rfl rfl dJ3_listIterator_5 (fun hp2 q3 hE H locs hW => ?_)
  refine e_dup X dJ3_listIterator_8 rfl ?_
  refine e_aload_n X hl 0 rfl dJ3_listIterator_9 rfl ?_
  refine e_iload_n X hl 1 rfl dJ3_listIterator_10 rfl ?_
  refine h_callI (rest := [.ref q3]) (As := [va_rf (some this), vI a1]) X hW (mh_J24_init l G hp2 q3 (some this) a1 _ hE) (cwI 2 X.ht (lw_meth q842) rfl rfl rfl (X.ht _ q158) (X.ht _ q840) (X.ht _ q841) rfl hd_J24_init (cxH (by decide) (by decide))) rfl hl.1 rfl (Nat.le_of_ble_eq_true rfl) dJ3_listIterator_11 ⟨Nat.le_of_ble_eq_true rfl, Nat.le_of_ble_eq_true rfl⟩ 1 5 rfl rfl (fun hp4 hE H locs hW => ?_)
  exact h_rret (r := some q3) X hW (Or.inl ⟨_, rfl⟩) hE (Nat.le_of_ble_eq_true rfl) (Nat.le_of_ble_eq_true rfl) dJ3_listIterator_14
theorem mh_J3_listIterator (l : Launch) (G : GG) (hp : HP) (this : Nat) (a1 : Int) (Q : Option Nat → HP → Prop) (hE : w_J3_listIterator G hp this a1 Q) : MH l yJ3_listIterator (ws_ yJ3_listIterator cJ3_listIterator 2 (some (.object "java/util/ListIterator"))) 2 1 5 G [.ref this, vI a1] hp (pR Q) :=
  MH.of (by decide +kernel) (Nat.le_of_ble_eq_true rfl) rfl (fun p e s m below meth c ls X hin hW hl => wb_J3_listIterator X hE hW hl)
def w_J24_hasNext (G : GG) (hp : HP) (this : Nat) (Q : Int → HP → Prop) : Prop :=
  hI hp this 21 2 fun v1 => hR hp this 21 4 fun r2 => hNn r2 fun b3 => hI hp b3 12 1 fun v4 => hIf (w32 v4 ≤ w32 v1) (Q 0 hp) (Q 1 hp)
theorem hd_J24_hasNext : yJ24_hasNext.cls = RJ24 ∧ yJ24_hasNext.cls ≠ "java/lang/invoke/MethodHandle" ∧ yJ24_hasNext.cls ≠ "java/lang/invoke/VarHandle" ∧ (parseMethodDescriptor yJ24_hasNext.desc).map (fun d => d.parameters.length) = some 0 := by decide +kernel
theorem wb_J24_hasNext {p : Program} {l : Launch} {e : Env} {s : State} {m : MethodId} {args : Array Value} {below : List Frame} {meth : Method} {c : Code} {G : GG} (X : CX p s m args meth c cJ24_hasNext 1 RJ24 (some .boolean) G) {Q : Int → HP → Prop} {hp : HP} {this : Nat} (hE : w_J24_hasNext G hp this Q) {H : Heap} {locs : List Loc} {ls : Array Slot} (hW : WH G hp H locs) (hl : lv_has ls 1 [(0, .ref this)]) : W p l e (rmA 0 0 0) s m args below meth c H locs 0 0 (QH below G args s 0 0 (pI Q)) (F0 m 0 ls []) := by
  unfold w_J24_hasNext at hE
  refine e_aload_n X hl 0 rfl dJ24_hasNext_0 rfl ?_
  refine h_getI X hW ck_J24 (k := 2) hE (by decide) q850 (fun _ h => h) dJ24_hasNext_1 (fun v1 hE => ?_)
  refine e_aload_n X hl 0 rfl dJ24_hasNext_4 rfl ?_
  refine h_getR X hW ck_J24 (k := 4) hE (by decide) q852 (fun _ h => h) dJ24_hasNext_5 (fun r2 hE => ?_)
  refine h_nn0 hE (fun b3 hE => ?_)
  refine h_getI X hW ck_J3 (k := 1) hE (by decide) q222 (fun _ h => h) dJ24_hasNext_8 (fun v4 hE => ?_)
  refine h_icmp_ge X (w32 v1) (w32 v4) rfl rfl hE dJ24_hasNext_11 rfl (fun hE => ?_) (fun hE => ?_)
  · refine e_iconst X dJ24_hasNext_18 ?_
    exact h_zret (x := 0) X hW hE rfl (Nat.le_of_ble_eq_true rfl) (Nat.le_of_ble_eq_true rfl) dJ24_hasNext_19
  · refine e_iconst X dJ24_hasNext_14 ?_
    refine e_goto X dJ24_hasNext_15 rfl ?_
    exact h_zret (x := 1) X hW hE rfl (Nat.le_of_ble_eq_true rfl) (Nat.le_of_ble_eq_true rfl) dJ24_hasNext_19
theorem mh_J24_hasNext (l : Launch) (G : GG) (hp : HP) (this : Nat) (Q : Int → HP → Prop) (hE : w_J24_hasNext G hp this Q) : MH l yJ24_hasNext (ws_ yJ24_hasNext cJ24_hasNext 1 (some .boolean)) 0 0 0 G [.ref this] hp (pI Q) :=
  MH.of (by decide +kernel) (Nat.le_of_ble_eq_true rfl) rfl (fun p e s m below meth c ls X hin hW hl => wb_J24_hasNext X hE hW hl)
def w_J24_checkForComodification (G : GG) (hp : HP) (this : Nat) (Q : HP → Prop) : Prop :=
  hR hp this 21 4 fun r1 => hNn r1 fun b2 => hI hp b2 12 0 fun v3 => hI hp this 21 3 fun v4 => hIf (w32 v3 = w32 v4) (Q hp) (False)
theorem hd_J24_checkForComodification : yJ24_checkForComodification.cls = RJ24 ∧ yJ24_checkForComodification.cls ≠ "java/lang/invoke/MethodHandle" ∧ yJ24_checkForComodification.cls ≠ "java/lang/invoke/VarHandle" ∧ (parseMethodDescriptor yJ24_checkForComodification.desc).map (fun d => d.parameters.length) = some 0 := by decide +kernel
theorem wb_J24_checkForComodification {p : Program} {l : Launch} {e : Env} {s : State} {m : MethodId} {args : Array Value} {below : List Frame} {meth : Method} {c : Code} {G : GG} (X : CX p s m args meth c cJ24_checkForComodification 1 RJ24 none G) {Q : HP → Prop} {hp : HP} {this : Nat} (hE : w_J24_checkForComodification G hp this Q) {H : Heap} {locs : List Loc} {ls : Array Slot} (hW : WH G hp H locs) (hl : lv_has ls 1 [(0, .ref this)]) : W p l e (rmA 0 0 0) s m args below meth c H locs 0 0 (QH below G args s 0 0 (pV Q)) (F0 m 0 ls []) := by
  unfold w_J24_checkForComodification at hE
  refine e_aload_n X hl 0 rfl dJ24_checkForComodification_0 rfl ?_
  refine h_getR X hW ck_J24 (k := 4) hE (by decide) q852 (fun _ h => h) dJ24_checkForComodification_1 (fun r1 hE => ?_)
  refine h_nn0 hE (fun b2 hE => ?_)
  refine h_getI X hW ck_J3 (k := 0) hE (by decide) q226 (fun x h => u_same (X.ht _ q227) x h) dJ24_checkForComodification_4 (fun v3 hE => ?_)
  refine e_aload_n X hl 0 rfl dJ24_checkForComodification_7 rfl ?_
  refine h_getI X hW ck_J24 (k := 3) hE (by decide) q851 (fun _ h => h) dJ24_checkForComodification_8 (fun v4 hE => ?_)
  refine h_icmp_eq X (w32 v3) (w32 v4) rfl rfl hE dJ24_checkForComodification_11 rfl (fun hE => ?_) (fun hE => ?_)
  · exact h_vret X hW hE (Nat.le_of_ble_eq_true rfl) (Nat.le_of_ble_eq_true rfl) dJ24_checkForComodification_22
  · exact hE.elim
theorem mh_J24_checkForComodification (l : Launch) (G : GG) (hp : HP) (this : Nat) (Q : HP → Prop) (hE : w_J24_checkForComodification G hp this Q) : MH l yJ24_checkForComodification (ws_ yJ24_checkForComodification cJ24_checkForComodification 1 none) 0 0 0 G [.ref this] hp (pV Q) :=
  MH.of (by decide +kernel) (Nat.le_of_ble_eq_true rfl) rfl (fun p e s m below meth c ls X hin hW hl => wb_J24_checkForComodification X hE hW hl)
def w_J24_next (G : GG) (hp : HP) (this : Nat) (Q : Option Nat → HP → Prop) : Prop :=
  hIs hp this 21 (w_J24_checkForComodification G hp this (fun hp1 => hIs hp1 this 21 (w_J24_hasNext G hp1 this (fun v3 hp2 => hIf (¬ w32 v3 = 0) (hR hp2 this 21 1 fun r4 => hPut hp2 this 21 0 (va_rf r4) fun hp5 => hR hp5 this 21 1 fun r6 => hNn r6 fun b7 => hR hp5 b7 27 1 fun r8 => hPut hp5 this 21 1 (va_rf r8) fun hp9 => hI hp9 this 21 2 fun v10 => hPut hp9 this 21 2 (vI (v10 + 1)) fun hp11 => hR hp11 this 21 0 fun r12 => hNn r12 fun b13 => hR hp11 b13 27 0 fun r14 => Q r14 hp11) (False)))))
theorem hd_J24_next : yJ24_next.cls = RJ24 ∧ yJ24_next.cls ≠ "java/lang/invoke/MethodHandle" ∧ yJ24_next.cls ≠ "java/lang/invoke/VarHandle" ∧ (parseMethodDescriptor yJ24_next.desc).map (fun d => d.parameters.length) = some 0 := by decide +kernel
theorem wb_J24_next {p : Program} {l : Launch} {e : Env} {s : State} {m : MethodId} {args : Array Value} {below : List Frame} {meth : Method} {c : Code} {G : GG} (X : CX p s m args meth c cJ24_next 1 RJ24 (some (.object "java/lang/Object")) G) {Q : Option Nat → HP → Prop} {hp : HP} {this : Nat} (hE : w_J24_next G hp this Q) {H : Heap} {locs : List Loc} {ls : Array Slot} (hW : WH G hp H locs) (hl : lv_has ls 1 [(0, .ref this)]) : W p l e (rmA 1 0 0) s m args below meth c H locs 0 0 (QH below G args s 0 0 (pR Q)) (F0 m 0 ls []) := by
  unfold w_J24_next at hE
  refine e_aload_n X hl 0 rfl dJ24_next_0 rfl ?_
  obtain ⟨⟨fs, he⟩, hE⟩ := hE
  refine h_callVV (rest := []) (As := []) X hW he ck_J24 (mh_J24_checkForComodification l G hp this _ hE) (cwV 0 X.ht (lw_V q1108 q1109 q1110 q158 q1111) rfl rfl rfl hd_J24_checkForComodification (cxH (by decide) (by decide))) rfl hl.1 rfl (Nat.le_of_ble_eq_true rfl) dJ24_next_1 ⟨Nat.le_of_ble_eq_true rfl, Nat.le_of_ble_eq_true rfl⟩ 0 0 rfl rfl (fun hp1 hE H locs hW => ?_)
  refine e_aload_n X hl 0 rfl dJ24_next_4 rfl ?_
  obtain ⟨⟨fs, he⟩, hE⟩ := hE
  refine h_callVI (rest := []) (As := []) X hW he ck_J24 (mh_J24_hasNext l G hp1 this _ hE) (cwV 0 X.ht (lw_V q1112 q894 q3585 q158 q896) rfl rfl rfl hd_J24_hasNext (cxH (by decide) (by decide))) rfl hl.1 rfl (Nat.le_of_ble_eq_true rfl) dJ24_next_5 ⟨Nat.le_of_ble_eq_true rfl, Nat.le_of_ble_eq_true rfl⟩ 0 0 rfl rfl (fun v3 hp2 hE H locs hW => ?_)
  refine h_if_ne X (w32 v3) rfl hE dJ24_next_8 rfl (fun hE => ?_) (fun hE => ?_)
  · refine e_aload_n X hl 0 rfl dJ24_next_19 rfl ?_
    refine e_aload_n X hl 0 rfl dJ24_next_20 rfl ?_
    refine h_getR X hW ck_J24 (k := 1) hE (by decide) q849 (fun _ h => h) dJ24_next_21 (fun r4 hE => ?_)
    refine h_put X hW ck_J24 (k := 0) hE (by decide) q848 (fun _ h => h) rfl rfl (fit_R r4) dJ24_next_24 (fun hp5 hE H locs hW => ?_)
    refine e_aload_n X hl 0 rfl dJ24_next_27 rfl ?_
    refine e_aload_n X hl 0 rfl dJ24_next_28 rfl ?_
    refine h_getR X hW ck_J24 (k := 1) hE (by decide) q849 (fun _ h => h) dJ24_next_29 (fun r6 hE => ?_)
    refine h_nn0 hE (fun b7 hE => ?_)
    refine h_getR X hW ck_J36 (k := 1) hE (by decide) q1401 (fun _ h => h) dJ24_next_32 (fun r8 hE => ?_)
    refine h_put X hW ck_J24 (k := 1) hE (by decide) q849 (fun _ h => h) rfl rfl (fit_R r8) dJ24_next_35 (fun hp9 hE H locs hW => ?_)
    refine e_aload_n X hl 0 rfl dJ24_next_38 rfl ?_
    refine e_dup X dJ24_next_39 rfl ?_
    refine h_getI X hW ck_J24 (k := 2) hE (by decide) q850 (fun _ h => h) dJ24_next_40 (fun v10 hE => ?_)
    refine e_iconst X dJ24_next_43 ?_
    refine e_iadd X dJ24_next_44 ?_
    refine h_put X hW ck_J24 (k := 2) hE (by decide) q850 (fun _ h => h) rfl rfl (fit_I _) dJ24_next_45 (fun hp11 hE H locs hW => ?_)
    refine e_aload_n X hl 0 rfl dJ24_next_48 rfl ?_
    refine h_getR X hW ck_J24 (k := 0) hE (by decide) q848 (fun _ h => h) dJ24_next_49 (fun r12 hE => ?_)
    refine h_nn0 hE (fun b13 hE => ?_)
    refine h_getR X hW ck_J36 (k := 0) hE (by decide) q1398 (fun _ h => h) dJ24_next_52 (fun r14 hE => ?_)
    exact h_rret (r := r14) X hW (Or.inl ⟨_, rfl⟩) hE (Nat.le_of_ble_eq_true rfl) (Nat.le_of_ble_eq_true rfl) dJ24_next_55
  · exact hE.elim
theorem mh_J24_next (l : Launch) (G : GG) (hp : HP) (this : Nat) (Q : Option Nat → HP → Prop) (hE : w_J24_next G hp this Q) : MH l yJ24_next (ws_ yJ24_next cJ24_next 1 (some (.object "java/lang/Object"))) 1 0 0 G [.ref this] hp (pR Q) :=
  MH.of (by decide +kernel) (Nat.le_of_ble_eq_true rfl) rfl (fun p e s m below meth c ls X hin hW hl => wb_J24_next X hE hW hl)
def w_J24_remove (G : GG) (hp : HP) (this : Nat) (Q : HP → Prop) : Prop :=
  hIs hp this 21 (w_J24_checkForComodification G hp this (fun hp1 => hR hp1 this 21 0 fun r2 => hIf (¬ r2 = none) (hR hp1 this 21 0 fun r3 => hNn r3 fun b4 => hR hp1 b4 27 1 fun r5 => hR hp1 this 21 4 fun r6 => hR hp1 this 21 0 fun r7 => hNn r6 fun b8 => hIs hp1 b8 12 (w_J3_unlink G hp1 b8 r7 (fun r10 hp9 => hR hp9 this 21 1 fun r11 => hR hp9 this 21 0 fun r12 => hJn (fun (hp14 : HP) => hPut hp14 this 21 0 (va_rf none) fun hp15 => hI hp15 this 21 3 fun v16 => hPut hp15 this 21 3 (vI (v16 + 1)) fun hp17 => Q hp17) fun kj13 => hIf (¬ r11 = r12) (hI hp9 this 21 2 fun v18 => hPut hp9 this 21 2 (vI (v18 - 1)) fun hp19 => kj13 hp19) (hPut hp9 this 21 1 (va_rf r5) fun hp20 => kj13 hp20)))) (False)))
theorem hd_J24_remove : yJ24_remove.cls = RJ24 ∧ yJ24_remove.cls ≠ "java/lang/invoke/MethodHandle" ∧ yJ24_remove.cls ≠ "java/lang/invoke/VarHandle" ∧ (parseMethodDescriptor yJ24_remove.desc).map (fun d => d.parameters.length) = some 0 := by decide +kernel
theorem wb_J24_remove {p : Program} {l : Launch} {e : Env} {s : State} {m : MethodId} {args : Array Value} {below : List Frame} {meth : Method} {c : Code} {G : GG} (X : CX p s m args meth c cJ24_remove 2 RJ24 none G) {Q : HP → Prop} {hp : HP} {this : Nat} (hE : w_J24_remove G hp this Q) {H : Heap} {locs : List Loc} {ls : Array Slot} (hW : WH G hp H locs) (hl : lv_has ls 2 [(0, .ref this)]) : W p l e (rmA 1 0 0) s m args below meth c H locs 0 0 (QH below G args s 0 0 (pV Q)) (F0 m 0 ls []) := by
  unfold w_J24_remove at hE
  refine e_aload_n X hl 0 rfl dJ24_remove_0 rfl ?_
  obtain ⟨⟨fs, he⟩, hE⟩ := hE
  refine h_callVV (rest := []) (As := []) X hW he ck_J24 (mh_J24_checkForComodification l G hp this _ hE) (cwV 0 X.ht (lw_V q1108 q1109 q1110 q158 q1111) rfl rfl rfl hd_J24_checkForComodification (cxH (by decide) (by decide))) rfl hl.1 rfl (Nat.le_of_ble_eq_true rfl) dJ24_remove_1 ⟨Nat.le_of_ble_eq_true rfl, Nat.le_of_ble_eq_true rfl⟩ 0 0 rfl rfl (fun hp1 hE H locs hW => ?_)
  refine e_aload_n X hl 0 rfl dJ24_remove_4 rfl ?_
  refine h_getR X hW ck_J24 (k := 0) hE (by decide) q848 (fun _ h => h) dJ24_remove_5 (fun r2 hE => ?_)
  refine h_ifnonnull X (r := r2) hE dJ24_remove_8 rfl (fun hE => ?_) (fun hE => ?_)
  · refine e_aload_n X hl 0 rfl dJ24_remove_19 rfl ?_
    refine h_getR X hW ck_J24 (k := 0) hE (by decide) q848 (fun _ h => h) dJ24_remove_20 (fun r3 hE => ?_)
    refine h_nn0 hE (fun b4 hE => ?_)
    refine h_getR X hW ck_J36 (k := 1) hE (by decide) q1401 (fun _ h => h) dJ24_remove_23 (fun r5 hE => ?_)
    refine e_astoreR_n X hl [(1, va_rf r5), (0, .ref this)] dJ24_remove_26 rfl (by decide) rfl (fun ls hl => ?_)
    refine e_aload_n X hl 1 rfl dJ24_remove_27 rfl ?_
    refine h_getR X hW ck_J24 (k := 4) hE (by decide) q852 (fun _ h => h) dJ24_remove_28 (fun r6 hE => ?_)
    refine e_aload_n X hl 1 rfl dJ24_remove_31 rfl ?_
    refine h_getR X hW ck_J24 (k := 0) hE (by decide) q848 (fun _ h => h) dJ24_remove_32 (fun r7 hE => ?_)
    refine h_nn1 hE (fun b8 hE => ?_)
    obtain ⟨⟨fs, he⟩, hE⟩ := hE
    refine h_callVR (rest := []) (As := [va_rf r7]) X hW he ck_J3 (mh_J3_unlink l G hp1 b8 r7 _ hE) (cwV 1 X.ht (lw_V q1598 q1555 q1556 q131 q1557) rfl rfl rfl hd_J3_unlink (cxH (by decide) (by decide))) rfl hl.1 rfl (Nat.le_of_ble_eq_true rfl) dJ24_remove_35 ⟨Nat.le_of_ble_eq_true rfl, Nat.le_of_ble_eq_true rfl⟩ 0 0 rfl rfl (fun r10 hp9 hE H locs hW => ?_)
    refine e_pop X dJ24_remove_38 (va_rf_cat _) ?_
    refine e_aload_n X hl 1 rfl dJ24_remove_39 rfl ?_
    refine h_getR X hW ck_J24 (k := 1) hE (by decide) q849 (fun _ h => h) dJ24_remove_40 (fun r11 hE => ?_)
    refine e_aload_n X hl 1 rfl dJ24_remove_43 rfl ?_
    refine h_getR X hW ck_J24 (k := 0) hE (by decide) q848 (fun _ h => h) dJ24_remove_44 (fun r12 hE => ?_)
    obtain ⟨kj13, hkj13, hE⟩ := h_jn hE
    have hjkj13 : ∀ (hp14 : HP) (H : Heap) (locs : List Loc) (ls : Array Slot), WH G hp14 H locs → lv_has ls 2 [(0, .ref this)] → kj13 hp14 → W p l e (rmA 1 0 0) s m args below meth c H locs 0 0 (QH below G args s 0 0 (pV Q)) (F0 m 68 ls []) := by
      intro hp14 H locs ls hW hl hE
      subst hkj13
      refine e_aload_n X hl 0 rfl dJ24_remove_68 rfl ?_
      refine e_nullw X dJ24_remove_69 ?_
      refine h_put X hW ck_J24 (k := 0) hE (by decide) q848 (fun _ h => h) rfl rfl (fit_R none) dJ24_remove_70 (fun hp15 hE H locs hW => ?_)
      refine e_aload_n X hl 0 rfl dJ24_remove_73 rfl ?_
      refine e_dup X dJ24_remove_74 rfl ?_
      refine h_getI X hW ck_J24 (k := 3) hE (by decide) q851 (fun _ h => h) dJ24_remove_75 (fun v16 hE => ?_)
      refine e_iconst X dJ24_remove_78 ?_
      refine e_iadd X dJ24_remove_79 ?_
      refine h_put X hW ck_J24 (k := 3) hE (by decide) q851 (fun _ h => h) rfl rfl (fit_I _) dJ24_remove_80 (fun hp17 hE H locs hW => ?_)
      exact h_vret X hW hE (Nat.le_of_ble_eq_true rfl) (Nat.le_of_ble_eq_true rfl) dJ24_remove_83
    refine h_acmp_ne X (r1 := r11) (r2 := r12) hE dJ24_remove_47 rfl (fun hE => ?_) (fun hE => ?_)
    · refine e_aload_n X hl 1 rfl dJ24_remove_58 rfl ?_
      refine e_dup X dJ24_remove_59 rfl ?_
      refine h_getI X hW ck_J24 (k := 2) hE (by decide) q850 (fun _ h => h) dJ24_remove_60 (fun v18 hE => ?_)
      refine e_iconst X dJ24_remove_63 ?_
      refine e_isub X dJ24_remove_64 ?_
      refine h_put X hW ck_J24 (k := 2) hE (by decide) q850 (fun _ h => h) rfl rfl (fit_I _) dJ24_remove_65 (fun hp19 hE H locs hW => ?_)
      exact hjkj13 hp19 _ _ _ hW (lv_sub hl [1] rfl) hE
    · refine e_aload_n X hl 1 rfl dJ24_remove_50 rfl ?_
      refine e_aloadR_n X hl 0 rfl dJ24_remove_51 rfl ?_
      refine h_put X hW ck_J24 (k := 1) hE (by decide) q849 (fun _ h => h) rfl rfl (fit_R r5) dJ24_remove_52 (fun hp20 hE H locs hW => ?_)
      refine e_goto X dJ24_remove_55 rfl ?_
      exact hjkj13 hp20 _ _ _ hW (lv_sub hl [1] rfl) hE
  · exact hE.elim
theorem mh_J24_remove (l : Launch) (G : GG) (hp : HP) (this : Nat) (Q : HP → Prop) (hE : w_J24_remove G hp this Q) : MH l yJ24_remove (ws_ yJ24_remove cJ24_remove 2 none) 1 0 0 G [.ref this] hp (pV Q) :=
  MH.of (by decide +kernel) (Nat.le_of_ble_eq_true rfl) rfl (fun p e s m below meth c ls X hin hW hl => wb_J24_remove X hE hW hl)
def w_J1_listIterator (G : GG) (hp : HP) (this : Nat) (Q : Option Nat → HP → Prop) : Prop :=
  hIs hp this 12 (w_J3_listIterator G hp this 0 (fun r2 hp1 => Q r2 hp1))
theorem hd_J1_listIterator : yJ1_listIterator.cls = RJ1 ∧ yJ1_listIterator.cls ≠ "java/lang/invoke/MethodHandle" ∧ yJ1_listIterator.cls ≠ "java/lang/invoke/VarHandle" ∧ (parseMethodDescriptor yJ1_listIterator.desc).map (fun d => d.parameters.length) = some 0 := by decide +kernel
theorem wb_J1_listIterator {p : Program} {l : Launch} {e : Env} {s : State} {m : MethodId} {args : Array Value} {below : List Frame} {meth : Method} {c : Code} {G : GG} (X : CX p s m args meth c cJ1_listIterator 1 RJ1 (some (.object "java/util/ListIterator")) G) {Q : Option Nat → HP → Prop} {hp : HP} {this : Nat} (hE : w_J1_listIterator G hp this Q) {H : Heap} {locs : List Loc} {ls : Array Slot} (hW : WH G hp H locs) (hl : lv_has ls 1 [(0, .ref this)]) : W p l e (rmA 3 1 5) s m args below meth c H locs 0 0 (QH below G args s 1 5 (pR Q)) (F0 m 0 ls []) := by
  unfold w_J1_listIterator at hE
  refine e_aload_n X hl 0 rfl dJ1_listIterator_0 rfl ?_
  refine e_iconst X dJ1_listIterator_1 ?_
  obtain ⟨⟨fs, he⟩, hE⟩ := hE
  refine h_callUR (rest := []) (As := [vI 0]) X hW he ck_J3 (mh_J3_listIterator l G hp this 0 _ hE) (cwH_U X 1 q824 q826 q827 q828 q131 q829 q864 (by decide +kernel) (by decide) (by decide)) rfl hl.1 rfl (Nat.le_of_ble_eq_true rfl) dJ1_listIterator_2 ⟨Nat.le_of_ble_eq_true rfl, Nat.le_of_ble_eq_true rfl⟩ 1 5 rfl rfl (fun r2 hp1 hE H locs hW => ?_)
  exact h_rret (r := r2) X hW (Or.inl ⟨_, rfl⟩) hE (Nat.le_of_ble_eq_true rfl) (Nat.le_of_ble_eq_true rfl) dJ1_listIterator_5
theorem mh_J1_listIterator (l : Launch) (G : GG) (hp : HP) (this : Nat) (Q : Option Nat → HP → Prop) (hE : w_J1_listIterator G hp this Q) : MH l yJ1_listIterator (ws_ yJ1_listIterator cJ1_listIterator 1 (some (.object "java/util/ListIterator"))) 3 1 5 G [.ref this] hp (pR Q) :=
  MH.of (by decide +kernel) (Nat.le_of_ble_eq_true rfl) rfl (fun p e s m below meth c ls X hin hW hl => wb_J1_listIterator X hE hW hl)
def w_J2_iterator (G : GG) (hp : HP) (this : Nat) (Q : Option Nat → HP → Prop) : Prop :=
  hIs hp this 12 (w_J1_listIterator G hp this (fun r2 hp1 => Q r2 hp1))
theorem hd_J2_iterator : yJ2_iterator.cls = RJ2 ∧ yJ2_iterator.cls ≠ "java/lang/invoke/MethodHandle" ∧ yJ2_iterator.cls ≠ "java/lang/invoke/VarHandle" ∧ (parseMethodDescriptor yJ2_iterator.desc).map (fun d => d.parameters.length) = some 0 := by decide +kernel
theorem wb_J2_iterator {p : Program} {l : Launch} {e : Env} {s : State} {m : MethodId} {args : Array Value} {below : List Frame} {meth : Method} {c : Code} {G : GG} (X : CX p s m args meth c cJ2_iterator 1 RJ2 (some (.object "java/util/Iterator")) G) {Q : Option Nat → HP → Prop} {hp : HP} {this : Nat} (hE : w_J2_iterator G hp this Q) {H : Heap} {locs : List Loc} {ls : Array Slot} (hW : WH G hp H locs) (hl : lv_has ls 1 [(0, .ref this)]) : W p l e (rmA 4 1 5) s m args below meth c H locs 0 0 (QH below G args s 1 5 (pR Q)) (F0 m 0 ls []) := by
  unfold w_J2_iterator at hE
  refine e_aload_n X hl 0 rfl dJ2_iterator_0 rfl ?_
  obtain ⟨⟨fs, he⟩, hE⟩ := hE
  refine h_callUR (rest := []) (As := []) X hW he ck_J3 (mh_J1_listIterator l G hp this _ hE) (cwH_U X 0 q818 q819 q821 q822 q129 q823 q820 (by decide +kernel) (by decide) (by decide)) rfl hl.1 rfl (Nat.le_of_ble_eq_true rfl) dJ2_iterator_1 ⟨Nat.le_of_ble_eq_true rfl, Nat.le_of_ble_eq_true rfl⟩ 1 5 rfl rfl (fun r2 hp1 hE H locs hW => ?_)
  exact h_rret (r := r2) X hW (Or.inl ⟨_, rfl⟩) hE (Nat.le_of_ble_eq_true rfl) (Nat.le_of_ble_eq_true rfl) dJ2_iterator_4
theorem mh_J2_iterator (l : Launch) (G : GG) (hp : HP) (this : Nat) (Q : Option Nat → HP → Prop) (hE : w_J2_iterator G hp this Q) : MH l yJ2_iterator (ws_ yJ2_iterator cJ2_iterator 1 (some (.object "java/util/Iterator"))) 4 1 5 G [.ref this] hp (pR Q) :=
  MH.of (by decide +kernel) (Nat.le_of_ble_eq_true rfl) rfl (fun p e s m below meth c ls X hin hW hl => wb_J2_iterator X hE hW hl)
def w_J22_sub (G : GG) (hp : HP) (a1 : Int) (a2 : Int) (a3 : Int) (Q : Int → HP → Prop) : Prop :=
  hJn (a1 - a2) fun v1 => hIf (0 ≤ w32 (a1 - a2)) (Q v1 hp) (hJn (v1 + a3) fun v2 => Q v2 hp)
theorem hd_J22_sub : yJ22_sub.cls ≠ "java/lang/invoke/MethodHandle" ∧ yJ22_sub.cls ≠ "java/lang/invoke/VarHandle" ∧ (parseMethodDescriptor yJ22_sub.desc).map (fun d => d.parameters.length) = some 3 := by decide +kernel
theorem wb_J22_sub {p : Program} {l : Launch} {e : Env} {s : State} {m : MethodId} {args : Array Value} {below : List Frame} {meth : Method} {c : Code} {G : GG} (X : CX p s m args meth c cJ22_sub 3 RJ22 (some .int) G) {Q : Int → HP → Prop} {hp : HP} {a1 : Int} {a2 : Int} {a3 : Int} (hE : w_J22_sub G hp a1 a2 a3 Q) {H : Heap} {locs : List Loc} {ls : Array Slot} (hW : WH G hp H locs) (hl : lv_has ls 3 [(0, vI a1), (1, vI a2), (2, vI a3)]) : W p l e (rmA 0 0 0) s m args below meth c H locs 0 0 (QH below G args s 0 0 (pI Q)) (F0 m 0 ls []) := by
  unfold w_J22_sub at hE
  refine e_iload_n X hl 0 rfl dJ22_sub_0 rfl ?_
  refine e_iload_n X hl 1 rfl dJ22_sub_1 rfl ?_
  refine e_isub X dJ22_sub_2 ?_
  refine e_dup X dJ22_sub_3 rfl ?_
  refine h_top hE (fun v1 hE => ?_)
  refine e_istore_n X hl [(0, vI v1), (1, vI a2), (2, vI a3)] dJ22_sub_4 rfl (by decide) rfl (fun ls hl => ?_)
  refine h_if_ge X (w32 (a1 - a2)) rfl hE dJ22_sub_5 rfl (fun hE => ?_) (fun hE => ?_)
  · refine e_iload_n X hl 0 rfl dJ22_sub_12 rfl ?_
    exact h_zret X hW hE rfl (Nat.le_of_ble_eq_true rfl) (Nat.le_of_ble_eq_true rfl) dJ22_sub_13
  · refine e_iload_n X hl 0 rfl dJ22_sub_8 rfl ?_
    refine e_iload_n X hl 2 rfl dJ22_sub_9 rfl ?_
    refine e_iadd X dJ22_sub_10 ?_
    refine h_top hE (fun v2 hE => ?_)
    refine e_istore_n X hl [(0, vI v2), (1, vI a2), (2, vI a3)] dJ22_sub_11 rfl (by decide) rfl (fun ls hl => ?_)
    refine e_iload_n X hl 0 rfl dJ22_sub_12 rfl ?_
    exact h_zret X hW hE rfl (Nat.le_of_ble_eq_true rfl) (Nat.le_of_ble_eq_true rfl) dJ22_sub_13
theorem mh_J22_sub (l : Launch) (G : GG) (hp : HP) (a1 : Int) (a2 : Int) (a3 : Int) (Q : Int → HP → Prop) (hE : w_J22_sub G hp a1 a2 a3 Q) : MH l yJ22_sub (ws_ yJ22_sub cJ22_sub 3 (some .int)) 0 0 0 G [vI a1, vI a2, vI a3] hp (pI Q) :=
  MH.of (by decide +kernel) (Nat.le_of_ble_eq_true rfl) rfl (fun p e s m below meth c ls X hin hW hl => wb_J22_sub X hE hW hl)
def w_J22_size (G : GG) (hp : HP) (this : Nat) (Q : Int → HP → Prop) : Prop :=
  hI hp this 20 2 fun v1 => hI hp this 20 1 fun v2 => hR hp this 20 0 fun r3 => hNn r3 fun b4 => hLen G hp b4 4 fun v5 => w_J22_sub G hp v1 v2 v5 (fun v7 hp6 => Q v7 hp6)
theorem hd_J22_size : yJ22_size.cls = RJ22 ∧ yJ22_size.cls ≠ "java/lang/invoke/MethodHandle" ∧ yJ22_size.cls ≠ "java/lang/invoke/VarHandle" ∧ (parseMethodDescriptor yJ22_size.desc).map (fun d => d.parameters.length) = some 0 := by decide +kernel
theorem wb_J22_size {p : Program} {l : Launch} {e : Env} {s : State} {m : MethodId} {args : Array Value} {below : List Frame} {meth : Method} {c : Code} {G : GG} (X : CX p s m args meth c cJ22_size 1 RJ22 (some .int) G) {Q : Int → HP → Prop} {hp : HP} {this : Nat} (hE : w_J22_size G hp this Q) {H : Heap} {locs : List Loc} {ls : Array Slot} (hW : WH G hp H locs) (hl : lv_has ls 1 [(0, .ref this)]) : W p l e (rmA 1 0 0) s m args below meth c H locs 0 0 (QH below G args s 0 0 (pI Q)) (F0 m 0 ls []) := by
  unfold w_J22_size at hE
  refine e_aload_n X hl 0 rfl dJ22_size_0 rfl ?_
  refine h_getI X hW ck_J22 (k := 2) hE (by decide) q745 (fun _ h => h) dJ22_size_1 (fun v1 hE => ?_)
  refine e_aload_n X hl 0 rfl dJ22_size_4 rfl ?_
  refine h_getI X hW ck_J22 (k := 1) hE (by decide) q744 (fun _ h => h) dJ22_size_5 (fun v2 hE => ?_)
  refine e_aload_n X hl 0 rfl dJ22_size_8 rfl ?_
  refine h_getR X hW ck_J22 (k := 0) hE (by decide) q741 (fun _ h => h) dJ22_size_9 (fun r3 hE => ?_)
  refine h_nn0 hE (fun b4 hE => ?_)
  refine h_alen X hW (t := 4) (fun _ => rfl) hE dJ22_size_12 (fun v5 hE => ?_)
  refine h_callSI (rest := []) (As := [vI v1, vI v2, vI v5]) X hW (mh_J22_sub l G hp v1 v2 v5 _ hE) (va_cwS 3 X.ht (lw_S q799 q800 q153 q801) rfl rfl rfl hd_J22_sub (cxH (by decide) (by decide))) rfl hl.1 rfl (Nat.le_of_ble_eq_true rfl) dJ22_size_13 ⟨Nat.le_of_ble_eq_true rfl, Nat.le_of_ble_eq_true rfl⟩ 0 0 rfl rfl (fun v7 hp6 hE H locs hW => ?_)
  exact h_zret X hW hE rfl (Nat.le_of_ble_eq_true rfl) (Nat.le_of_ble_eq_true rfl) dJ22_size_16
theorem mh_J22_size (l : Launch) (G : GG) (hp : HP) (this : Nat) (Q : Int → HP → Prop) (hE : w_J22_size G hp this Q) : MH l yJ22_size (ws_ yJ22_size cJ22_size 1 (some .int)) 1 0 0 G [.ref this] hp (pI Q) :=
  MH.of (by decide +kernel) (Nat.le_of_ble_eq_true rfl) rfl (fun p e s m below meth c ls X hin hW hl => wb_J22_size X hE hW hl)
def w_J22_inc (G : GG) (hp : HP) (a1 : Int) (a2 : Int) (Q : Int → HP → Prop) : Prop :=
  hJn (a1 + 1) fun v1 => hIf (w32 v1 < w32 a2) (Q v1 hp) (Q 0 hp)
theorem hd_J22_inc : yJ22_inc.cls ≠ "java/lang/invoke/MethodHandle" ∧ yJ22_inc.cls ≠ "java/lang/invoke/VarHandle" ∧ (parseMethodDescriptor yJ22_inc.desc).map (fun d => d.parameters.length) = some 2 := by decide +kernel
theorem wb_J22_inc {p : Program} {l : Launch} {e : Env} {s : State} {m : MethodId} {args : Array Value} {below : List Frame} {meth : Method} {c : Code} {G : GG} (X : CX p s m args meth c cJ22_inc 2 RJ22 (some .int) G) {Q : Int → HP → Prop} {hp : HP} {a1 : Int} {a2 : Int} (hE : w_J22_inc G hp a1 a2 Q) {H : Heap} {locs : List Loc} {ls : Array Slot} (hW : WH G hp H locs) (hl : lv_has ls 2 [(0, vI a1), (1, vI a2)]) : W p l e (rmA 0 0 0) s m args below meth c H locs 0 0 (QH below G args s 0 0 (pI Q)) (F0 m 0 ls []) := by
  unfold w_J22_inc at hE
  refine h_iinc X hl 0 hE (fun v1 => [(0, vI v1), (1, vI a2)]) rfl dJ22_inc_0 (by decide) (fun _ => rfl) (fun v1 hE ls hl => ?_)
  refine e_iload_n X hl 0 rfl dJ22_inc_3 rfl ?_
  refine e_iload_n X hl 1 rfl dJ22_inc_4 rfl ?_
  refine h_icmp_lt X (w32 v1) (w32 a2) rfl rfl hE dJ22_inc_5 rfl (fun hE => ?_) (fun hE => ?_)
  · refine e_iload_n X hl 0 rfl dJ22_inc_10 rfl ?_
    exact h_zret X hW hE rfl (Nat.le_of_ble_eq_true rfl) (Nat.le_of_ble_eq_true rfl) dJ22_inc_11
  · refine e_iconst X dJ22_inc_8 ?_
    refine e_istore_n X hl [(0, vI 0), (1, vI a2)] dJ22_inc_9 rfl (by decide) rfl (fun ls hl => ?_)
    refine e_iload_n X hl 0 rfl dJ22_inc_10 rfl ?_
    exact h_zret (x := 0) X hW hE rfl (Nat.le_of_ble_eq_true rfl) (Nat.le_of_ble_eq_true rfl) dJ22_inc_11
theorem mh_J22_inc (l : Launch) (G : GG) (hp : HP) (a1 : Int) (a2 : Int) (Q : Int → HP → Prop) (hE : w_J22_inc G hp a1 a2 Q) : MH l yJ22_inc (ws_ yJ22_inc cJ22_inc 2 (some .int)) 0 0 0 G [vI a1, vI a2] hp (pI Q) :=
  MH.of (by decide +kernel) (Nat.le_of_ble_eq_true rfl) rfl (fun p e s m below meth c ls X hin hW hl => wb_J22_inc X hE hW hl)
def w_J22_dec (G : GG) (hp : HP) (a1 : Int) (a2 : Int) (Q : Int → HP → Prop) : Prop :=
  hJn (a1 + (-1)) fun v1 => hIf (0 ≤ w32 v1) (Q v1 hp) (hJn (a2 - 1) fun v2 => Q v2 hp)
theorem hd_J22_dec : yJ22_dec.cls ≠ "java/lang/invoke/MethodHandle" ∧ yJ22_dec.cls ≠ "java/lang/invoke/VarHandle" ∧ (parseMethodDescriptor yJ22_dec.desc).map (fun d => d.parameters.length) = some 2 := by decide +kernel
theorem wb_J22_dec {p : Program} {l : Launch} {e : Env} {s : State} {m : MethodId} {args : Array Value} {below : List Frame} {meth : Method} {c : Code} {G : GG} (X : CX p s m args meth c cJ22_dec 2 RJ22 (some .int) G) {Q : Int → HP → Prop} {hp : HP} {a1 : Int} {a2 : Int} (hE : w_J22_dec G hp a1 a2 Q) {H : Heap} {locs : List Loc} {ls : Array Slot} (hW : WH G hp H locs) (hl : lv_has ls 2 [(0, vI a1), (1, vI a2)]) : W p l e (rmA 0 0 0) s m args below meth c H locs 0 0 (QH below G args s 0 0 (pI Q)) (F0 m 0 ls []) := by
  unfold w_J22_dec at hE
  refine h_iinc X hl 0 hE (fun v1 => [(0, vI v1), (1, vI a2)]) rfl dJ22_dec_0 (by decide) (fun _ => rfl) (fun v1 hE ls hl => ?_)
  refine e_iload_n X hl 0 rfl dJ22_dec_3 rfl ?_
  refine h_if_ge X (w32 v1) rfl hE dJ22_dec_4 rfl (fun hE => ?_) (fun hE => ?_)
  · refine e_iload_n X hl 0 rfl dJ22_dec_11 rfl ?_
    exact h_zret X hW hE rfl (Nat.le_of_ble_eq_true rfl) (Nat.le_of_ble_eq_true rfl) dJ22_dec_12
  · refine e_iload_n X hl 1 rfl dJ22_dec_7 rfl ?_
    refine e_iconst X dJ22_dec_8 ?_
    refine e_isub X dJ22_dec_9 ?_
    refine h_top hE (fun v2 hE => ?_)
    refine e_istore_n X hl [(0, vI v2), (1, vI a2)] dJ22_dec_10 rfl (by decide) rfl (fun ls hl => ?_)
    refine e_iload_n X hl 0 rfl dJ22_dec_11 rfl ?_
    exact h_zret X hW hE rfl (Nat.le_of_ble_eq_true rfl) (Nat.le_of_ble_eq_true rfl) dJ22_dec_12
theorem mh_J22_dec (l : Launch) (G : GG) (hp : HP) (a1 : Int) (a2 : Int) (Q : Int → HP → Prop) (hE : w_J22_dec G hp a1 a2 Q) : MH l yJ22_dec (ws_ yJ22_dec cJ22_dec 2 (some .int)) 0 0 0 G [vI a1, vI a2] hp (pI Q) :=
  MH.of (by decide +kernel) (Nat.le_of_ble_eq_true rfl) rfl (fun p e s m below meth c ls X hin hW hl => wb_J22_dec X hE hW hl)
def w_J22_isEmpty (G : GG) (hp : HP) (this : Nat) (Q : Int → HP → Prop) : Prop :=
  hI hp this 20 1 fun v1 => hI hp this 20 2 fun v2 => hIf (¬ w32 v1 = w32 v2) (Q 0 hp) (Q 1 hp)
theorem hd_J22_isEmpty : yJ22_isEmpty.cls = RJ22 ∧ yJ22_isEmpty.cls ≠ "java/lang/invoke/MethodHandle" ∧ yJ22_isEmpty.cls ≠ "java/lang/invoke/VarHandle" ∧ (parseMethodDescriptor yJ22_isEmpty.desc).map (fun d => d.parameters.length) = some 0 := by decide +kernel
theorem wb_J22_isEmpty {p : Program} {l : Launch} {e : Env} {s : State} {m : MethodId} {args : Array Value} {below : List Frame} {meth : Method} {c : Code} {G : GG} (X : CX p s m args meth c cJ22_isEmpty 1 RJ22 (some .boolean) G) {Q : Int → HP → Prop} {hp : HP} {this : Nat} (hE : w_J22_isEmpty G hp this Q) {H : Heap} {locs : List Loc} {ls : Array Slot} (hW : WH G hp H locs) (hl : lv_has ls 1 [(0, .ref this)]) : W p l e (rmA 0 0 0) s m args below meth c H locs 0 0 (QH below G args s 0 0 (pI Q)) (F0 m 0 ls []) := by
  unfold w_J22_isEmpty at hE
  refine e_aload_n X hl 0 rfl dJ22_isEmpty_0 rfl ?_
  refine h_getI X hW ck_J22 (k := 1) hE (by decide) q744 (fun _ h => h) dJ22_isEmpty_1 (fun v1 hE => ?_)
  refine e_aload_n X hl 0 rfl dJ22_isEmpty_4 rfl ?_
  refine h_getI X hW ck_J22 (k := 2) hE (by decide) q745 (fun _ h => h) dJ22_isEmpty_5 (fun v2 hE => ?_)
  refine h_icmp_ne X (w32 v1) (w32 v2) rfl rfl hE dJ22_isEmpty_8 rfl (fun hE => ?_) (fun hE => ?_)
  · refine e_iconst X dJ22_isEmpty_15 ?_
    exact h_zret (x := 0) X hW hE rfl (Nat.le_of_ble_eq_true rfl) (Nat.le_of_ble_eq_true rfl) dJ22_isEmpty_16
  · refine e_iconst X dJ22_isEmpty_11 ?_
    refine e_goto X dJ22_isEmpty_12 rfl ?_
    exact h_zret (x := 1) X hW hE rfl (Nat.le_of_ble_eq_true rfl) (Nat.le_of_ble_eq_true rfl) dJ22_isEmpty_16
theorem mh_J22_isEmpty (l : Launch) (G : GG) (hp : HP) (this : Nat) (Q : Int → HP → Prop) (hE : w_J22_isEmpty G hp this Q) : MH l yJ22_isEmpty (ws_ yJ22_isEmpty cJ22_isEmpty 1 (some .boolean)) 0 0 0 G [.ref this] hp (pI Q) :=
  MH.of (by decide +kernel) (Nat.le_of_ble_eq_true rfl) rfl (fun p e s m below meth c ls X hin hW hl => wb_J22_isEmpty X hE hW hl)
def w_J22_elementAt (G : GG) (hp : HP) (a1 : Option Nat) (a2 : Int) (Q : Option Nat → HP → Prop) : Prop :=
  hNn a1 fun b1 => haR G hp b1 4 a2 fun r2 => Q r2 hp
theorem hd_J22_elementAt : yJ22_elementAt.cls ≠ "java/lang/invoke/MethodHandle" ∧ yJ22_elementAt.cls ≠ "java/lang/invoke/VarHandle" ∧ (parseMethodDescriptor yJ22_elementAt.desc).map (fun d => d.parameters.length) = some 2 := by decide +kernel
theorem wb_J22_elementAt {p : Program} {l : Launch} {e : Env} {s : State} {m : MethodId} {args : Array Value} {below : List Frame} {meth : Method} {c : Code} {G : GG} (X : CX p s m args meth c cJ22_elementAt 2 RJ22 (some (.object "java/lang/Object")) G) {Q : Option Nat → HP → Prop} {hp : HP} {a1 : Option Nat} {a2 : Int} (hE : w_J22_elementAt G hp a1 a2 Q) {H : Heap} {locs : List Loc} {ls : Array Slot} (hW : WH G hp H locs) (hl : lv_has ls 2 [(0, va_rf a1), (1, vI a2)]) : W p l e (rmA 0 0 0) s m args below meth c H locs 0 0 (QH below G args s 0 0 (pR Q)) (F0 m 0 ls []) := by
  unfold w_J22_elementAt at hE
  refine e_aloadR_n X hl 0 rfl dJ22_elementAt_0 rfl ?_
  refine e_iload_n X hl 1 rfl dJ22_elementAt_1 rfl ?_
  refine h_nn1 hE (fun b1 hE => ?_)
  refine h_aald X hW (fun _ => rfl) hE dJ22_elementAt_2 (fun r2 hE => ?_)
  exact h_rret (r := r2) X hW (Or.inl ⟨_, rfl⟩) hE (Nat.le_of_ble_eq_true rfl) (Nat.le_of_ble_eq_true rfl) dJ22_elementAt_3
theorem mh_J22_elementAt (l : Launch) (G : GG) (hp : HP) (a1 : Option Nat) (a2 : Int) (Q : Option Nat → HP → Prop) (hE : w_J22_elementAt G hp a1 a2 Q) : MH l yJ22_elementAt (ws_ yJ22_elementAt cJ22_elementAt 2 (some (.object "java/lang/Object"))) 0 0 0 G [va_rf a1, vI a2] hp (pR Q) :=
  MH.of (by decide +kernel) (by cases a1 <;> exact Nat.le_of_ble_eq_true rfl) (lv := [(0, va_rf a1), (1, vI a2)]) (by cases a1 <;> rfl) (fun p e s m below meth c ls X hin hW hl => wb_J22_elementAt X hE hW hl)
def w_J22_pollFirst (G : GG) (hp : HP) (this : Nat) (Q : Option Nat → HP → Prop) : Prop :=
  hR hp this 20 0 fun r1 => hI hp this 20 1 fun v2 => w_J22_elementAt G hp r1 v2 (fun r4 hp3 => hIf (r4 = none) (Q r4 hp3) (hNn r1 fun b5 => hsR G hp3 b5 4 v2 0 none fun hp6 => hNn r1 fun b7 => hLen G hp6 b7 4 fun v8 => w_J22_inc G hp6 v2 v8 (fun v10 hp9 => hPut hp9 this 20 1 (vI v10) fun hp11 => Q r4 hp11)))
theorem hd_J22_pollFirst : yJ22_pollFirst.cls = RJ22 ∧ yJ22_pollFirst.cls ≠ "java/lang/invoke/MethodHandle" ∧ yJ22_pollFirst.cls ≠ "java/lang/invoke/VarHandle" ∧ (parseMethodDescriptor yJ22_pollFirst.desc).map (fun d => d.parameters.length) = some 0 := by decide +kernel
theorem wb_J22_pollFirst {p : Program} {l : Launch} {e : Env} {s : State} {m : MethodId} {args : Array Value} {below : List Frame} {meth : Method} {c : Code} {G : GG} (X : CX p s m args meth c cJ22_pollFirst 4 RJ22 (some (.object "java/lang/Object")) G) {Q : Option Nat → HP → Prop} {hp : HP} {this : Nat} (hE : w_J22_pollFirst G hp this Q) {H : Heap} {locs : List Loc} {ls : Array Slot} (hW : WH G hp H locs) (hl : lv_has ls 4 [(0, .ref this)]) : W p l e (rmA 1 0 0) s m args below meth c H locs 0 0 (QH below G args s 0 0 (pR Q)) (F0 m 0 ls []) := by
  unfold w_J22_pollFirst at hE
  refine e_aload_n X hl 0 rfl dJ22_pollFirst_0 rfl ?_
  refine h_getR X hW ck_J22 (k := 0) hE (by decide) q741 (fun _ h => h) dJ22_pollFirst_1 (fun r1 hE => ?_)
  refine e_dup X dJ22_pollFirst_4 (va_rf_cat _) ?_
  refine e_astoreR_n X hl [(1, va_rf r1), (0, .ref this)] dJ22_pollFirst_5 rfl (by decide) rfl (fun ls hl => ?_)
  refine e_aload_n X hl 1 rfl dJ22_pollFirst_6 rfl ?_
  refine h_getI X hW ck_J22 (k := 1) hE (by decide) q744 (fun _ h => h) dJ22_pollFirst_7 (fun v2 hE => ?_)
  refine e_dup X dJ22_pollFirst_10 rfl ?_
  refine e_istore_n X hl [(2, vI v2), (1, va_rf r1), (0, .ref this)] dJ22_pollFirst_11 rfl (by decide) (by generalize r1 = r; cases r <;> rfl) (fun ls hl => ?_)
  refine h_callSR (rest := []) (As := [va_rf r1, vI v2]) X hW (mh_J22_elementAt l G hp r1 v2 _ hE) (va_cwS 2 X.ht (lw_S q1126 q1127 q153 q1128) rfl rfl rfl hd_J22_elementAt (cxH (by decide) (by decide))) rfl hl.1 rfl (Nat.le_of_ble_eq_true rfl) dJ22_pollFirst_12 ⟨Nat.le_of_ble_eq_true rfl, Nat.le_of_ble_eq_true rfl⟩ 0 0 rfl rfl (fun r4 hp3 hE H locs hW => ?_)
  refine e_astoreR_n X hl [(3, va_rf r4), (2, vI v2), (1, va_rf r1), (0, .ref this)] dJ22_pollFirst_15 rfl (by decide) rfl (fun ls hl => ?_)
  refine e_aloadR_n X hl 0 rfl dJ22_pollFirst_16 rfl ?_
  refine h_ifnull X (r := r4) hE dJ22_pollFirst_17 rfl (fun hE => ?_) (fun hE => ?_)
  · refine e_aloadR_n X hl 0 rfl dJ22_pollFirst_34 rfl ?_
    exact h_rret (r := r4) X hW (Or.inl ⟨_, rfl⟩) hE (Nat.le_of_ble_eq_true rfl) (Nat.le_of_ble_eq_true rfl) dJ22_pollFirst_35
  · refine e_aloadR_n X hl 2 rfl dJ22_pollFirst_20 rfl ?_
    refine e_iload_n X hl 1 rfl dJ22_pollFirst_21 rfl ?_
    refine e_nullw X dJ22_pollFirst_22 ?_
    refine h_nn2 hE (fun b5 hE => ?_)
    refine h_aastN X hW (fun _ => rfl) hE dJ22_pollFirst_23 (fun hp6 hE H locs hW => ?_)
    refine e_aload_n X hl 3 rfl dJ22_pollFirst_24 rfl ?_
    refine e_iload_n X hl 1 rfl dJ22_pollFirst_25 rfl ?_
    refine e_aloadR_n X hl 2 rfl dJ22_pollFirst_26 rfl ?_
    refine h_nn0 hE (fun b7 hE => ?_)
    refine h_alen X hW (t := 4) (fun _ => rfl) hE dJ22_pollFirst_27 (fun v8 hE => ?_)
    refine h_callSI (rest := [.ref this]) (As := [vI v2, vI v8]) X hW (mh_J22_inc l G hp6 v2 v8 _ hE) (va_cwS 2 X.ht (lw_S q1129 q1069 q153 q1070) rfl rfl rfl hd_J22_inc (cxH (by decide) (by decide))) rfl hl.1 rfl (Nat.le_of_ble_eq_true rfl) dJ22_pollFirst_28 ⟨Nat.le_of_ble_eq_true rfl, Nat.le_of_ble_eq_true rfl⟩ 0 0 rfl rfl (fun v10 hp9 hE H locs hW => ?_)
    refine h_put X hW ck_J22 (k := 1) hE (by decide) q744 (fun _ h => h) rfl rfl (fit_I _) dJ22_pollFirst_31 (fun hp11 hE H locs hW => ?_)
    refine e_aloadR_n X hl 0 rfl dJ22_pollFirst_34 rfl ?_
    exact h_rret (r := r4) X hW (Or.inl ⟨_, rfl⟩) hE (Nat.le_of_ble_eq_true rfl) (Nat.le_of_ble_eq_true rfl) dJ22_pollFirst_35
theorem mh_J22_pollFirst (l : Launch) (G : GG) (hp : HP) (this : Nat) (Q : Option Nat → HP → Prop) (hE : w_J22_pollFirst G hp this Q) : MH l yJ22_pollFirst (ws_ yJ22_pollFirst cJ22_pollFirst 4 (some (.object "java/lang/Object"))) 1 0 0 G [.ref this] hp (pR Q) :=
  MH.of (by decide +kernel) (Nat.le_of_ble_eq_true rfl) rfl (fun p e s m below meth c ls X hin hW hl => wb_J22_pollFirst X hE hW hl)
def w_J22_removeFirst (G : GG) (hp : HP) (this : Nat) (Q : Option Nat → HP → Prop) : Prop :=
  hIs hp this 20 (w_J22_pollFirst G hp this (fun r2 hp1 => hIf (¬ r2 = none) (Q r2 hp1) (False)))
theorem hd_J22_removeFirst : yJ22_removeFirst.cls = RJ22 ∧ yJ22_removeFirst.cls ≠ "java/lang/invoke/MethodHandle" ∧ yJ22_removeFirst.cls ≠ "java/lang/invoke/VarHandle" ∧ (parseMethodDescriptor yJ22_removeFirst.desc).map (fun d => d.parameters.length) = some 0 := by decide +kernel
theorem wb_J22_removeFirst {p : Program} {l : Launch} {e : Env} {s : State} {m : MethodId} {args : Array Value} {below : List Frame} {meth : Method} {c : Code} {G : GG} (X : CX p s m args meth c cJ22_removeFirst 2 RJ22 (some (.object "java/lang/Object")) G) {Q : Option Nat → HP → Prop} {hp : HP} {this : Nat} (hE : w_J22_removeFirst G hp this Q) {H : Heap} {locs : List Loc} {ls : Array Slot} (hW : WH G hp H locs) (hl : lv_has ls 2 [(0, .ref this)]) : W p l e (rmA 2 0 0) s m args below meth c H locs 0 0 (QH below G args s 0 0 (pR Q)) (F0 m 0 ls []) := by
  unfold w_J22_removeFirst at hE
  refine e_aload_n X hl 0 rfl dJ22_removeFirst_0 rfl ?_
  obtain ⟨⟨fs, he⟩, hE⟩ := hE
  refine h_callVR (rest := []) (As := []) X hW he ck_J22 (mh_J22_pollFirst l G hp this _ hE) (cwV 0 X.ht (lw_V q1122 q1123 q1124 q153 q1125) rfl rfl rfl hd_J22_pollFirst (cxH (by decide) (by decide))) rfl hl.1 rfl (Nat.le_of_ble_eq_true rfl) dJ22_removeFirst_1 ⟨Nat.le_of_ble_eq_true rfl, Nat.le_of_ble_eq_true rfl⟩ 0 0 rfl rfl (fun r2 hp1 hE H locs hW => ?_)
  refine e_astoreR_n X hl [(1, va_rf r2), (0, .ref this)] dJ22_removeFirst_4 rfl (by decide) rfl (fun ls hl => ?_)
  refine e_aloadR_n X hl 0 rfl dJ22_removeFirst_5 rfl ?_
  refine h_ifnonnull X (r := r2) hE dJ22_removeFirst_6 rfl (fun hE => ?_) (fun hE => ?_)
  · refine e_aloadR_n X hl 0 rfl dJ22_removeFirst_17 rfl ?_
    exact h_rret (r := r2) X hW (Or.inl ⟨_, rfl⟩) hE (Nat.le_of_ble_eq_true rfl) (Nat.le_of_ble_eq_true rfl) dJ22_removeFirst_18
  · exact hE.elim
theorem mh_J22_removeFirst (l : Launch) (G : GG) (hp : HP) (this : Nat) (Q : Option Nat → HP → Prop) (hE : w_J22_removeFirst G hp this Q) : MH l yJ22_removeFirst (ws_ yJ22_removeFirst cJ22_removeFirst 2 (some (.object "java/lang/Object"))) 2 0 0 G [.ref this] hp (pR Q) :=
  MH.of (by decide +kernel) (Nat.le_of_ble_eq_true rfl) rfl (fun p e s m below meth c ls X hin hW hl => wb_J22_removeFirst X hE hW hl)
def w_J22_pollLast (G : GG) (hp : HP) (this : Nat) (Q : Option Nat → HP → Prop) : Prop :=
  hR hp this 20 0 fun r1 => hI hp this 20 2 fun v2 => hNn r1 fun b3 => hLen G hp b3 4 fun v4 => w_J22_dec G hp v2 v4 (fun v6 hp5 => w_J22_elementAt G hp5 r1 v6 (fun r8 hp7 => hIf (r8 = none) (Q r8 hp7) (hPut hp7 this 20 2 (vI v6) fun hp9 => hNn r1 fun b10 => hsR G hp9 b10 4 v6 0 none fun hp11 => Q r8 hp11)))
theorem hd_J22_pollLast : yJ22_pollLast.cls = RJ22 ∧ yJ22_pollLast.cls ≠ "java/lang/invoke/MethodHandle" ∧ yJ22_pollLast.cls ≠ "java/lang/invoke/VarHandle" ∧ (parseMethodDescriptor yJ22_pollLast.desc).map (fun d => d.parameters.length) = some 0 := by decide +kernel
theorem wb_J22_pollLast {p : Program} {l : Launch} {e : Env} {s : State} {m : MethodId} {args : Array Value} {below : List Frame} {meth : Method} {c : Code} {G : GG} (X : CX p s m args meth c cJ22_pollLast 4 RJ22 (some (.object "java/lang/Object")) G) {Q : Option Nat → HP → Prop} {hp : HP} {this : Nat} (hE : w_J22_pollLast G hp this Q) {H : Heap} {locs : List Loc} {ls : Array Slot} (hW : WH G hp H locs) (hl : lv_has ls 4 [(0, .ref this)]) : W p l e (rmA 1 0 0) s m args below meth c H locs 0 0 (QH below G args s 0 0 (pR Q)) (F0 m 0 ls []) := by
  unfold w_J22_pollLast at hE
  refine e_aload_n X hl 0 rfl dJ22_pollLast_0 rfl ?_
  refine h_getR X hW ck_J22 (k := 0) hE (by decide) q741 (fun _ h => h) dJ22_pollLast_1 (fun r1 hE => ?_)
  refine e_dup X dJ22_pollLast_4 (va_rf_cat _) ?_
  refine e_astoreR_n X hl [(1, va_rf r1), (0, .ref this)] dJ22_pollLast_5 rfl (by decide) rfl (fun ls hl => ?_)
  refine e_aload_n X hl 1 rfl dJ22_pollLast_6 rfl ?_
  refine h_getI X hW ck_J22 (k := 2) hE (by decide) q745 (fun _ h => h) dJ22_pollLast_7 (fun v2 hE => ?_)
  refine e_aloadR_n X hl 0 rfl dJ22_pollLast_10 rfl ?_
  refine h_nn0 hE (fun b3 hE => ?_)
  refine h_alen X hW (t := 4) (fun _ => rfl) hE dJ22_pollLast_11 (fun v4 hE => ?_)
  refine h_callSI (rest := [va_rf r1]) (As := [vI v2, vI v4]) X hW (mh_J22_dec l G hp v2 v4 _ hE) (va_cwS 2 X.ht (lw_S q1335 q1336 q153 q1337) rfl rfl rfl hd_J22_dec (cxH (by decide) (by decide))) rfl hl.1 rfl (by generalize r1 = z0; cases z0 <;> exact Nat.le_of_ble_eq_true rfl) dJ22_pollLast_12 ⟨Nat.le_of_ble_eq_true rfl, Nat.le_of_ble_eq_true rfl⟩ 0 0 rfl rfl (fun v6 hp5 hE H locs hW => ?_)
  refine e_dup X dJ22_pollLast_15 rfl ?_
  refine e_istore_n X hl [(2, vI v6), (1, va_rf r1), (0, .ref this)] dJ22_pollLast_16 rfl (by decide) (by generalize r1 = r; cases r <;> rfl) (fun ls hl => ?_)
  refine h_callSR (rest := []) (As := [va_rf r1, vI v6]) X hW (mh_J22_elementAt l G hp5 r1 v6 _ hE) (va_cwS 2 X.ht (lw_S q1126 q1127 q153 q1128) rfl rfl rfl hd_J22_elementAt (cxH (by decide) (by decide))) rfl hl.1 rfl (Nat.le_of_ble_eq_true rfl) dJ22_pollLast_17 ⟨Nat.le_of_ble_eq_true rfl, Nat.le_of_ble_eq_true rfl⟩ 0 0 rfl rfl (fun r8 hp7 hE H locs hW => ?_)
  refine e_astoreR_n X hl [(3, va_rf r8), (2, vI v6), (1, va_rf r1), (0, .ref this)] dJ22_pollLast_20 rfl (by decide) rfl (fun ls hl => ?_)
  refine e_aloadR_n X hl 0 rfl dJ22_pollLast_21 rfl ?_
  refine h_ifnull X (r := r8) hE dJ22_pollLast_22 rfl (fun hE => ?_) (fun hE => ?_)
  · refine e_aloadR_n X hl 0 rfl dJ22_pollLast_34 rfl ?_
    exact h_rret (r := r8) X hW (Or.inl ⟨_, rfl⟩) hE (Nat.le_of_ble_eq_true rfl) (Nat.le_of_ble_eq_true rfl) dJ22_pollLast_35
  · refine e_aloadR_n X hl 2 rfl dJ22_pollLast_25 rfl ?_
    refine e_aload_n X hl 3 rfl dJ22_pollLast_26 rfl ?_
    refine e_iload_n X hl 1 rfl dJ22_pollLast_27 rfl ?_
    refine e_dup_x1 X dJ22_pollLast_28 rfl rfl ?_
    refine h_put X hW ck_J22 (k := 2) hE (by decide) q745 (fun _ h => h) rfl rfl (fit_I _) dJ22_pollLast_29 (fun hp9 hE H locs hW => ?_)
    refine e_nullw X dJ22_pollLast_32 ?_
    refine h_nn2 hE (fun b10 hE => ?_)
    refine h_aastN X hW (fun _ => rfl) hE dJ22_pollLast_33 (fun hp11 hE H locs hW => ?_)
    refine e_aloadR_n X hl 0 rfl dJ22_pollLast_34 rfl ?_
    exact h_rret (r := r8) X hW (Or.inl ⟨_, rfl⟩) hE (Nat.le_of_ble_eq_true rfl) (Nat.le_of_ble_eq_true rfl) dJ22_pollLast_35
theorem mh_J22_pollLast (l : Launch) (G : GG) (hp : HP) (this : Nat) (Q : Option Nat → HP → Prop) (hE : w_J22_pollLast G hp this Q) : MH l yJ22_pollLast (ws_ yJ22_pollLast cJ22_pollLast 4 (some (.object "java/lang/Object"))) 1 0 0 G [.ref this] hp (pR Q) :=
  MH.of (by decide +kernel) (Nat.le_of_ble_eq_true rfl) rfl (fun p e s m below meth c ls X hin hW hl => wb_J22_pollLast X hE hW hl)
def w_J22_removeLast (G : GG) (hp : HP) (this : Nat) (Q : Option Nat → HP → Prop) : Prop :=
  hIs hp this 20 (w_J22_pollLast G hp this (fun r2 hp1 => hIf (¬ r2 = none) (Q r2 hp1) (False)))
theorem hd_J22_removeLast : yJ22_removeLast.cls = RJ22 ∧ yJ22_removeLast.cls ≠ "java/lang/invoke/MethodHandle" ∧ yJ22_removeLast.cls ≠ "java/lang/invoke/VarHandle" ∧ (parseMethodDescriptor yJ22_removeLast.desc).map (fun d => d.parameters.length) = some 0 := by decide +kernel
theorem wb_J22_removeLast {p : Program} {l : Launch} {e : Env} {s : State} {m : MethodId} {args : Array Value} {below : List Frame} {meth : Method} {c : Code} {G : GG} (X : CX p s m args meth c cJ22_removeLast 2 RJ22 (some (.object "java/lang/Object")) G) {Q : Option Nat → HP → Prop} {hp : HP} {this : Nat} (hE : w_J22_removeLast G hp this Q) {H : Heap} {locs : List Loc} {ls : Array Slot} (hW : WH G hp H locs) (hl : lv_has ls 2 [(0, .ref this)]) : W p l e (rmA 2 0 0) s m args below meth c H locs 0 0 (QH below G args s 0 0 (pR Q)) (F0 m 0 ls []) := by
  unfold w_J22_removeLast at hE
  refine e_aload_n X hl 0 rfl dJ22_removeLast_0 rfl ?_
  obtain ⟨⟨fs, he⟩, hE⟩ := hE
  refine h_callVR (rest := []) (As := []) X hW he ck_J22 (mh_J22_pollLast l G hp this _ hE) (cwV 0 X.ht (lw_V q1331 q1332 q1333 q153 q1334) rfl rfl rfl hd_J22_pollLast (cxH (by decide) (by decide))) rfl hl.1 rfl (Nat.le_of_ble_eq_true rfl) dJ22_removeLast_1 ⟨Nat.le_of_ble_eq_true rfl, Nat.le_of_ble_eq_true rfl⟩ 0 0 rfl rfl (fun r2 hp1 hE H locs hW => ?_)
  refine e_astoreR_n X hl [(1, va_rf r2), (0, .ref this)] dJ22_removeLast_4 rfl (by decide) rfl (fun ls hl => ?_)
  refine e_aloadR_n X hl 0 rfl dJ22_removeLast_5 rfl ?_
  refine h_ifnonnull X (r := r2) hE dJ22_removeLast_6 rfl (fun hE => ?_) (fun hE => ?_)
  · refine e_aloadR_n X hl 0 rfl dJ22_removeLast_17 rfl ?_
    exact h_rret (r := r2) X hW (Or.inl ⟨_, rfl⟩) hE (Nat.le_of_ble_eq_true rfl) (Nat.le_of_ble_eq_true rfl) dJ22_removeLast_18
  · exact hE.elim
theorem mh_J22_removeLast (l : Launch) (G : GG) (hp : HP) (this : Nat) (Q : Option Nat → HP → Prop) (hE : w_J22_removeLast G hp this Q) : MH l yJ22_removeLast (ws_ yJ22_removeLast cJ22_removeLast 2 (some (.object "java/lang/Object"))) 2 0 0 G [.ref this] hp (pR Q) :=
  MH.of (by decide +kernel) (Nat.le_of_ble_eq_true rfl) rfl (fun p e s m below meth c ls X hin hW hl => wb_J22_removeLast X hE hW hl)
def w_J22_addLast (G : GG) (hp : HP) (this : Nat) (a1 : Option Nat) (Q : HP → Prop) : Prop :=
  hIf (¬ a1 = none) (hR hp this 20 0 fun r1 => hI hp this 20 2 fun v2 => hNn r1 fun b3 => hsR G hp b3 4 v2 6 a1 fun hp4 => hI hp4 this 20 1 fun v5 => hI hp4 this 20 2 fun v6 => hNn r1 fun b7 => hLen G hp4 b7 4 fun v8 => w_J22_inc G hp4 v6 v8 (fun v10 hp9 => hPut hp9 this 20 2 (vI v10) fun hp11 => hIf (¬ w32 v5 = w32 v10) (Q hp11) (False))) (False)
theorem hd_J22_addLast : yJ22_addLast.cls = RJ22 ∧ yJ22_addLast.cls ≠ "java/lang/invoke/MethodHandle" ∧ yJ22_addLast.cls ≠ "java/lang/invoke/VarHandle" ∧ (parseMethodDescriptor yJ22_addLast.desc).map (fun d => d.parameters.length) = some 1 := by decide +kernel
theorem wb_J22_addLast {p : Program} {l : Launch} {e : Env} {s : State} {m : MethodId} {args : Array Value} {below : List Frame} {meth : Method} {c : Code} {G : GG} (X : CX p s m args meth c cJ22_addLast 3 RJ22 none G) {Q : HP → Prop} {hp : HP} {this : Nat} {a1 : Option Nat} (hE : w_J22_addLast G hp this a1 Q) {H : Heap} {locs : List Loc} {ls : Array Slot} (hW : WH G hp H locs) (hl : lv_has ls 3 [(0, .ref this), (1, va_rf a1)]) : W p l e (rmA 1 0 0) s m args below meth c H locs 0 0 (QH below G args s 0 0 (pV Q)) (F0 m 0 ls []) := by
  unfold w_J22_addLast at hE
  refine e_aloadR_n X hl 1 rfl dJ22_addLast_0 rfl ?_
  refine h_ifnonnull X (r := a1) hE dJ22_addLast_1 rfl (fun hE => ?_) (fun hE => ?_)
  · refine e_aload_n X hl 0 rfl dJ22_addLast_12 rfl ?_
    refine h_getR X hW ck_J22 (k := 0) hE (by decide) q741 (fun _ h => h) dJ22_addLast_13 (fun r1 hE => ?_)
    refine e_astoreR_n X hl [(2, va_rf r1), (0, .ref this), (1, va_rf a1)] dJ22_addLast_16 rfl (by decide) (by generalize a1 = r; cases r <;> rfl) (fun ls hl => ?_)
    refine e_aloadR_n X hl 0 rfl dJ22_addLast_17 rfl ?_
    refine e_aload_n X hl 1 rfl dJ22_addLast_18 rfl ?_
    refine h_getI X hW ck_J22 (k := 2) hE (by decide) q745 (fun _ h => h) dJ22_addLast_19 (fun v2 hE => ?_)
    refine e_aloadR_n X hl 2 rfl dJ22_addLast_22 rfl ?_
    refine h_nn2 hE (fun b3 hE => ?_)
    refine h_aast X hW (fun _ => rfl) ck_X6 q3622 (r := a1) hE dJ22_addLast_23 (fun hp4 hE H locs hW => ?_)
    refine e_aload_n X hl 1 rfl dJ22_addLast_24 rfl ?_
    refine h_getI X hW ck_J22 (k := 1) hE (by decide) q744 (fun _ h => h) dJ22_addLast_25 (fun v5 hE => ?_)
    refine e_aload_n X hl 1 rfl dJ22_addLast_28 rfl ?_
    refine e_aload_n X hl 1 rfl dJ22_addLast_29 rfl ?_
    refine h_getI X hW ck_J22 (k := 2) hE (by decide) q745 (fun _ h => h) dJ22_addLast_30 (fun v6 hE => ?_)
    refine e_aloadR_n X hl 0 rfl dJ22_addLast_33 rfl ?_
    refine h_nn0 hE (fun b7 hE => ?_)
    refine h_alen X hW (t := 4) (fun _ => rfl) hE dJ22_addLast_34 (fun v8 hE => ?_)
    refine h_callSI (rest := [.ref this, vI v5]) (As := [vI v6, vI v8]) X hW (mh_J22_inc l G hp4 v6 v8 _ hE) (va_cwS 2 X.ht (lw_S q1129 q1069 q153 q1070) rfl rfl rfl hd_J22_inc (cxH (by decide) (by decide))) rfl hl.1 rfl (Nat.le_of_ble_eq_true rfl) dJ22_addLast_35 ⟨Nat.le_of_ble_eq_true rfl, Nat.le_of_ble_eq_true rfl⟩ 0 0 rfl rfl (fun v10 hp9 hE H locs hW => ?_)
    refine e_dup_x1 X dJ22_addLast_38 rfl rfl ?_
    refine h_put X hW ck_J22 (k := 2) hE (by decide) q745 (fun _ h => h) rfl rfl (fit_I _) dJ22_addLast_39 (fun hp11 hE H locs hW => ?_)
    refine h_icmp_ne X (w32 v5) (w32 v10) rfl rfl hE dJ22_addLast_42 rfl (fun hE => ?_) (fun hE => ?_)
    · exact h_vret X hW hE (Nat.le_of_ble_eq_true rfl) (Nat.le_of_ble_eq_true rfl) dJ22_addLast_50
    · exact hE.elim
  · exact hE.elim
theorem mh_J22_addLast (l : Launch) (G : GG) (hp : HP) (this : Nat) (a1 : Option Nat) (Q : HP → Prop) (hE : w_J22_addLast G hp this a1 Q) : MH l yJ22_addLast (ws_ yJ22_addLast cJ22_addLast 3 none) 1 0 0 G [.ref this, va_rf a1] hp (pV Q) :=
  MH.of (by decide +kernel) (by cases a1 <;> exact Nat.le_of_ble_eq_true rfl) (lv := [(0, .ref this), (1, va_rf a1)]) (by cases a1 <;> rfl) (fun p e s m below meth c ls X hin hW hl => wb_J22_addLast X hE hW hl)
def w_J22_circularClear_L12 (G : GG) (b_0 : Option Nat) (b_2 : Int) (k : HP → Int → Int → Prop) : Nat → HP → Int → Int → Prop
  | 0, _, _, _ => False
  | n + 1, hp, x1, x3 =>
    hIf (w32 x3 ≤ w32 x1) (hIf (¬ w32 x3 = w32 b_2) (w_J22_circularClear_L12 G b_0 b_2 k n hp 0 b_2) (k hp x1 x3)) (hNn b_0 fun b3 => hsR G hp b3 4 x1 0 none fun hp4 => hJn (x1 + 1) fun v5 => w_J22_circularClear_L12 G b_0 b_2 k n hp4 v5 x3)
def w_J22_circularClear (G : GG) (hp : HP) (a1 : Option Nat) (a2 : Int) (a3 : Int) (Q : HP → Prop) : Prop :=
  hJn (fun (v2 : Int) => ∃ n : Nat, w_J22_circularClear_L12 G a1 a3 (fun (hp6 : HP) (v7 : Int) (v8 : Int) => Q hp6) n hp a2 v2) fun kj1 => hIf (w32 a3 < w32 a2) (hNn a1 fun b9 => hLen G hp b9 4 fun v10 => kj1 v10) (kj1 a3)
theorem hd_J22_circularClear : yJ22_circularClear.cls ≠ "java/lang/invoke/MethodHandle" ∧ yJ22_circularClear.cls ≠ "java/lang/invoke/VarHandle" ∧ (parseMethodDescriptor yJ22_circularClear.desc).map (fun d => d.parameters.length) = some 3 := by decide +kernel
theorem wl_J22_circularClear_12 {p : Program} {l : Launch} {e : Env} {s : State} {m : MethodId} {args : Array Value} {below : List Frame} {meth : Method} {c : Code} {G : GG} (X : CX p s m args meth c cJ22_circularClear 4 RJ22 none G) {Q : HP → Prop} {b_0 : Option Nat} {b_2 : Int} {k : HP → Int → Int → Prop} : ∀ (n : Nat) (hp : HP) (x1 : Int) (x3 : Int) (H : Heap) (locs : List Loc) (ls : Array Slot) (hE : w_J22_circularClear_L12 G b_0 b_2 k n hp x1 x3) (hW : WH G hp H locs) (hl : lv_has ls 4 [(0, va_rf b_0), (1, vI x1), (2, vI b_2), (3, vI x3)]) (hk : ∀ (hp : HP) (x1 : Int) (x3 : Int) (H : Heap) (locs : List Loc) (ls : Array Slot), WH G hp H locs → lv_has ls 4 [(0, va_rf b_0), (1, vI x1), (2, vI b_2), (3, vI x3)] → k hp x1 x3 → W p l e (rmA 0 0 0) s m args below meth c H locs 0 0 (QH below G args s 0 0 (pV Q)) (F0 m 32 ls [])), W p l e (rmA 0 0 0) s m args below meth c H locs 0 0 (QH below G args s 0 0 (pV Q)) (F0 m 12 ls []) := by
  intro n
  induction n with
  | zero =>
    intro hp x1 x3 H locs ls hE hW hl hk
    unfold w_J22_circularClear_L12 at hE
    exact hE.elim
  | succ n ih =>
    intro hp x1 x3 H locs ls hE hW hl hk
    unfold w_J22_circularClear_L12 at hE
    refine e_iload_n X hl 1 rfl dJ22_circularClear_12 rfl ?_
    refine e_iload_n X hl 3 rfl dJ22_circularClear_13 rfl ?_
    refine h_icmp_ge X (w32 x1) (w32 x3) rfl rfl hE dJ22_circularClear_14 rfl (fun hE => ?_) (fun hE => ?_)
    · refine e_iload_n X hl 3 rfl dJ22_circularClear_27 rfl ?_
      refine e_iload_n X hl 2 rfl dJ22_circularClear_28 rfl ?_
      refine h_icmp_ne X (w32 x3) (w32 b_2) rfl rfl hE dJ22_circularClear_29 rfl (fun hE => ?_) (fun hE => ?_)
      · refine e_iconst X dJ22_circularClear_35 ?_
        refine e_istore_n X hl [(1, vI 0), (0, va_rf b_0), (2, vI b_2), (3, vI x3)] dJ22_circularClear_36 rfl (by decide) (by generalize b_0 = r; cases r <;> rfl) (fun ls hl => ?_)
        refine e_iload_n X hl 2 rfl dJ22_circularClear_37 rfl ?_
        refine e_istore_n X hl [(3, vI b_2), (1, vI 0), (0, va_rf b_0), (2, vI b_2)] dJ22_circularClear_38 rfl (by decide) rfl (fun ls hl => ?_)
        refine e_goto X dJ22_circularClear_39 rfl ?_
        exact ih hp 0 b_2 _ _ _ hE hW (lv_sub hl [2, 1, 3, 0] rfl) hk
      · exact hk hp x1 x3 _ _ _ hW (lv_sub hl [0, 1, 2, 3] rfl) hE
    · refine e_aloadR_n X hl 0 rfl dJ22_circularClear_17 rfl ?_
      refine e_iload_n X hl 1 rfl dJ22_circularClear_18 rfl ?_
      refine e_nullw X dJ22_circularClear_19 ?_
      refine h_nn2 hE (fun b3 hE => ?_)
      refine h_aastN X hW (fun _ => rfl) hE dJ22_circularClear_20 (fun hp4 hE H locs hW => ?_)
      refine h_iinc X hl 1 hE (fun v5 => [(1, vI v5), (0, va_rf b_0), (2, vI b_2), (3, vI x3)]) rfl dJ22_circularClear_21 (by decide) (fun _ => by generalize b_0 = r; cases r <;> rfl) (fun v5 hE ls hl => ?_)
      refine e_goto X dJ22_circularClear_24 rfl ?_
      exact ih hp4 v5 x3 _ _ _ hE hW (lv_sub hl [1, 0, 2, 3] rfl) hk
theorem wb_J22_circularClear {p : Program} {l : Launch} {e : Env} {s : State} {m : MethodId} {args : Array Value} {below : List Frame} {meth : Method} {c : Code} {G : GG} (X : CX p s m args meth c cJ22_circularClear 4 RJ22 none G) {Q : HP → Prop} {hp : HP} {a1 : Option Nat} {a2 : Int} {a3 : Int} (hE : w_J22_circularClear G hp a1 a2 a3 Q) {H : Heap} {locs : List Loc} {ls : Array Slot} (hW : WH G hp H locs) (hl : lv_has ls 4 [(0, va_rf a1), (1, vI a2), (2, vI a3)]) : W p l e (rmA 0 0 0) s m args below meth c H locs 0 0 (QH below G args s 0 0 (pV Q)) (F0 m 0 ls []) := by
  unfold w_J22_circularClear at hE
  refine e_iload_n X hl 1 rfl dJ22_circularClear_0 rfl ?_
  refine e_iload_n X hl 2 rfl dJ22_circularClear_1 rfl ?_
  obtain ⟨kj1, hkj1, hE⟩ := h_jn hE
  have hjkj1 : ∀ (v2 : Int) (H : Heap) (locs : List Loc) (ls : Array Slot), WH G hp H locs → lv_has ls 4 [(0, va_rf a1), (1, vI a2), (2, vI a3)] → kj1 v2 → W p l e (rmA 0 0 0) s m args below meth c H locs 0 0 (QH below G args s 0 0 (pV Q)) (F0 m 11 ls [vI v2]) := by
    intro v2 H locs ls hW hl hE
    subst hkj1
    refine e_istore_n X hl [(3, vI v2), (0, va_rf a1), (1, vI a2), (2, vI a3)] dJ22_circularClear_11 rfl (by decide) rfl (fun ls hl => ?_)
    obtain ⟨n, hE⟩ := hE
    refine wl_J22_circularClear_12 X n hp a2 v2 _ _ _ hE hW (lv_sub hl [1, 2, 3, 0] rfl) (fun hp6 v7 v8 H locs ls hW hl hE => ?_)
    refine e_goto X dJ22_circularClear_32 rfl ?_
    exact h_vret X hW hE (Nat.le_of_ble_eq_true rfl) (Nat.le_of_ble_eq_true rfl) dJ22_circularClear_42
  refine h_icmp_gt X (w32 a2) (w32 a3) rfl rfl hE dJ22_circularClear_2 rfl (fun hE => ?_) (fun hE => ?_)
  · refine e_aloadR_n X hl 0 rfl dJ22_circularClear_9 rfl ?_
    refine h_nn0 hE (fun b9 hE => ?_)
    refine h_alen X hW (t := 4) (fun _ => rfl) hE dJ22_circularClear_10 (fun v10 hE => ?_)
    exact hjkj1 v10 _ _ _ hW (lv_sub hl [0, 1, 2] rfl) hE
  · refine e_iload_n X hl 2 rfl dJ22_circularClear_5 rfl ?_
    refine e_goto X dJ22_circularClear_6 rfl ?_
    exact hjkj1 a3 _ _ _ hW (lv_sub hl [0, 1, 2] rfl) hE
theorem mh_J22_circularClear (l : Launch) (G : GG) (hp : HP) (a1 : Option Nat) (a2 : Int) (a3 : Int) (Q : HP → Prop) (hE : w_J22_circularClear G hp a1 a2 a3 Q) : MH l yJ22_circularClear (ws_ yJ22_circularClear cJ22_circularClear 4 none) 0 0 0 G [va_rf a1, vI a2, vI a3] hp (pV Q) :=
  MH.of (by decide +kernel) (by cases a1 <;> exact Nat.le_of_ble_eq_true rfl) (lv := [(0, va_rf a1), (1, vI a2), (2, vI a3)]) (by cases a1 <;> rfl) (fun p e s m below meth c ls X hin hW hl => wb_J22_circularClear X hE hW hl)
def w_J22_clear (G : GG) (hp : HP) (this : Nat) (Q : HP → Prop) : Prop :=
  hR hp this 20 0 fun r1 => hI hp this 20 1 fun v2 => hI hp this 20 2 fun v3 => w_J22_circularClear G hp r1 v2 v3 (fun hp4 => hPut hp4 this 20 2 (vI 0) fun hp5 => hPut hp5 this 20 1 (vI 0) fun hp6 => Q hp6)
theorem hd_J22_clear : yJ22_clear.cls = RJ22 ∧ yJ22_clear.cls ≠ "java/lang/invoke/MethodHandle" ∧ yJ22_clear.cls ≠ "java/lang/invoke/VarHandle" ∧ (parseMethodDescriptor yJ22_clear.desc).map (fun d => d.parameters.length) = some 0 := by decide +kernel
theorem wb_J22_clear {p : Program} {l : Launch} {e : Env} {s : State} {m : MethodId} {args : Array Value} {below : List Frame} {meth : Method} {c : Code} {G : GG} (X : CX p s m args meth c cJ22_clear 1 RJ22 none G) {Q : HP → Prop} {hp : HP} {this : Nat} (hE : w_J22_clear G hp this Q) {H : Heap} {locs : List Loc} {ls : Array Slot} (hW : WH G hp H locs) (hl : lv_has ls 1 [(0, .ref this)]) : W p l e (rmA 1 0 0) s m args below meth c H locs 0 0 (QH below G args s 0 0 (pV Q)) (F0 m 0 ls []) := by
  unfold w_J22_clear at hE
  refine e_aload_n X hl 0 rfl dJ22_clear_0 rfl ?_
  refine h_getR X hW ck_J22 (k := 0) hE (by decide) q741 (fun _ h => h) dJ22_clear_1 (fun r1 hE => ?_)
  refine e_aload_n X hl 0 rfl dJ22_clear_4 rfl ?_
  refine h_getI X hW ck_J22 (k := 1) hE (by decide) q744 (fun _ h => h) dJ22_clear_5 (fun v2 hE => ?_)
  refine e_aload_n X hl 0 rfl dJ22_clear_8 rfl ?_
  refine h_getI X hW ck_J22 (k := 2) hE (by decide) q745 (fun _ h => h) dJ22_clear_9 (fun v3 hE => ?_)
  refine h_callSV (rest := []) (As := [va_rf r1, vI v2, vI v3]) X hW (mh_J22_circularClear l G hp r1 v2 v3 _ hE) (va_cwS 3 X.ht (lw_S q3025 q3026 q153 q3027) rfl rfl rfl hd_J22_circularClear (cxH (by decide) (by decide))) rfl hl.1 rfl (Nat.le_of_ble_eq_true rfl) dJ22_clear_12 ⟨Nat.le_of_ble_eq_true rfl, Nat.le_of_ble_eq_true rfl⟩ 0 0 rfl rfl (fun hp4 hE H locs hW => ?_)
  refine e_aload_n X hl 0 rfl dJ22_clear_15 rfl ?_
  refine e_aload_n X hl 0 rfl dJ22_clear_16 rfl ?_
  refine e_iconst X dJ22_clear_17 ?_
  refine e_dup_x1 X dJ22_clear_18 rfl rfl ?_
  refine h_put X hW ck_J22 (k := 2) hE (by decide) q745 (fun _ h => h) rfl rfl (fit_I _) dJ22_clear_19 (fun hp5 hE H locs hW => ?_)
  refine h_put X hW ck_J22 (k := 1) hE (by decide) q744 (fun _ h => h) rfl rfl (fit_I _) dJ22_clear_22 (fun hp6 hE H locs hW => ?_)
  exact h_vret X hW hE (Nat.le_of_ble_eq_true rfl) (Nat.le_of_ble_eq_true rfl) dJ22_clear_25
theorem mh_J22_clear (l : Launch) (G : GG) (hp : HP) (this : Nat) (Q : HP → Prop) (hE : w_J22_clear G hp this Q) : MH l yJ22_clear (ws_ yJ22_clear cJ22_clear 1 none) 1 0 0 G [.ref this] hp (pV Q) :=
  MH.of (by decide +kernel) (Nat.le_of_ble_eq_true rfl) rfl (fun p e s m below meth c ls X hin hW hl => wb_J22_clear X hE hW hl)
