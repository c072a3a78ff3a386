/-! 30 FAULT: the constructor of Fault over the heap: by program (genFault.py) -/
set_option maxRecDepth 100000
def w_J7_init_4 (G : GG) (hp : HP) (this : Nat) (a1 : Option Nat) (a2 : Option Nat) (a3 : Int) (a4 : Int) (Q : HP → Prop) : Prop :=
  hPut hp this 8 0 (.ref this) fun hp1 => hAll fun r2 => hPut hp1 this 8 1 (va_rf r2) fun hp3 => hAll fun r4 => hPut hp3 this 8 2 (va_rf r4) fun hp5 => hIf (w32 a4 = 0) (hPut hp5 this 8 1 (va_rf none) fun hp6 => hPut hp6 this 8 3 (va_rf a1) fun hp7 => hPut hp7 this 8 0 (va_rf a2) fun hp8 => hIf (¬ w32 a3 = 0) (Q hp8) (hPut hp8 this 8 2 (va_rf none) fun hp9 => Q hp9)) (False)
theorem hd_J7_init_4 : yJ7_init_4.cls ≠ "java/lang/invoke/MethodHandle" ∧ yJ7_init_4.cls ≠ "java/lang/invoke/VarHandle" ∧ (parseMethodDescriptor yJ7_init_4.desc).map (fun d => d.parameters.length) = some 4 := by decide +kernel
theorem hwb_J7_init_4 {p : Program} {l : Launch} {e : Env} {s : State} {m : MethodId} {args : Array Value} {below : List Frame} {meth : Method} {c : Code} {G : GG} (X : CX p s m args meth c cJ7_init_4 5 RJ7 none G) (hin : meth.name = "<init>") {Q : HP → Prop} {hp : HP} {this : Nat} {a1 : Option Nat} {a2 : Option Nat} {a3 : Int} {a4 : Int} (hE : w_J7_init_4 G hp this a1 a2 a3 a4 Q) {H : Heap} {locs : List Loc} {ls : Array Slot} (hW : WH G hp H locs) (hl : lv_has ls 5 [(0, .ref this), (1, va_rf a1), (2, va_rf a2), (3, vI a3), (4, vI a4)]) : W p l e (rmA 1 0 0) s m args below meth c H locs 0 0 (QH below G args s 0 0 (pV Q)) (F0 m 0 ls []) := by
  unfold w_J7_init_4 at hE
  refine e_aload_n X hl 0 rfl dJ7_init_4_0 rfl ?_
  refine h_objInit X hl.1 q310 (Nat.le_of_ble_eq_true rfl) dJ7_init_4_1 q204 q205 (by decide) ?_
  refine e_aload_n X hl 0 rfl dJ7_init_4_4 rfl ?_
  refine e_aload_n X hl 0 rfl dJ7_init_4_5 rfl ?_
  refine h_put X hW ck_X8 (k := 0) hE (by decide) q374 (fun _ h => h) rfl rfl (fit_R (some this)) dJ7_init_4_6 (fun hp1 hE H locs hW => ?_)
  refine e_aload_n X hl 0 rfl dJ7_init_4_9 rfl ?_
  refine h_getsR (C := "java/lang/Throwable") X hW hE q312 (lw_all_tbl q136) (by decide +kernel) q311 dJ7_init_4_10 (fun r2 hE => ?_)
  refine h_put X hW ck_X8 (k := 1) hE (by decide) q375 (fun _ h => h) rfl rfl (fit_A r2) dJ7_init_4_13 (fun hp3 hE H locs hW => ?_)
  refine e_aload_n X hl 0 rfl dJ7_init_4_16 rfl ?_
  refine h_getsR (C := "java/lang/Throwable") X hW hE q314 (lw_all_tbl q136) (by decide +kernel) q313 dJ7_init_4_17 (fun r4 hE => ?_)
  refine h_put X hW ck_X8 (k := 2) hE (by decide) q376 (fun _ h => h) rfl rfl (fit_R r4) dJ7_init_4_20 (fun hp5 hE H locs hW => ?_)
  refine e_iload X hl 4 rfl dJ7_init_4_23 ?_
  refine h_if_eq X (w32 a4) rfl hE dJ7_init_4_25 rfl (fun hE => ?_) (fun hE => ?_)
  · refine e_aload_n X hl 0 rfl dJ7_init_4_36 rfl ?_
    refine e_nullw X dJ7_init_4_37 ?_
    refine h_put X hW ck_X8 (k := 1) hE (by decide) q375 (fun _ h => h) rfl rfl (fit_A none) dJ7_init_4_38 (fun hp6 hE H locs hW => ?_)
    refine e_aload_n X hl 0 rfl dJ7_init_4_41 rfl ?_
    refine e_aloadR_n X hl 1 rfl dJ7_init_4_42 rfl ?_
    refine h_put X hW ck_X8 (k := 3) hE (by decide) q373 (fun _ h => h) rfl rfl (fit_R a1) dJ7_init_4_43 (fun hp7 hE H locs hW => ?_)
    refine e_aload_n X hl 0 rfl dJ7_init_4_46 rfl ?_
    refine e_aloadR_n X hl 2 rfl dJ7_init_4_47 rfl ?_
    refine h_put X hW ck_X8 (k := 0) hE (by decide) q374 (fun _ h => h) rfl rfl (fit_R a2) dJ7_init_4_48 (fun hp8 hE H locs hW => ?_)
    refine e_iload_n X hl 3 rfl dJ7_init_4_51 rfl ?_
    refine h_if_ne X (w32 a3) rfl hE dJ7_init_4_52 rfl (fun hE => ?_) (fun hE => ?_)
    · exact h_vret X hW hE (Nat.le_of_ble_eq_true rfl) (Nat.le_of_ble_eq_true rfl) dJ7_init_4_60
    · refine e_aload_n X hl 0 rfl dJ7_init_4_55 rfl ?_
      refine e_nullw X dJ7_init_4_56 ?_
      refine h_put X hW ck_X8 (k := 2) hE (by decide) q376 (fun _ h => h) rfl rfl (fit_R none) dJ7_init_4_57 (fun hp9 hE H locs hW => ?_)
      exact h_vret X hW hE (Nat.le_of_ble_eq_true rfl) (Nat.le_of_ble_eq_true rfl) dJ7_init_4_60
  · exact hE.elim
theorem mh_J7_init_4 (l : Launch) (G : GG) (hp : HP) (this : Nat) (a1 : Option Nat) (a2 : Option Nat) (a3 : Int) (a4 : Int) (Q : HP → Prop) (hE : w_J7_init_4 G hp this a1 a2 a3 a4 Q) : MH l yJ7_init_4 (ws_ yJ7_init_4 cJ7_init_4 5 none) 1 0 0 G [.ref this, va_rf a1, va_rf a2, vI a3, vI a4] hp (pV Q) :=
  MH.of (by decide +kernel) (by cases a1 <;> cases a2 <;> exact Nat.le_of_ble_eq_true rfl) (lv := [(0, .ref this), (1, va_rf a1), (2, va_rf a2), (3, vI a3), (4, vI a4)]) (by cases a1 <;> cases a2 <;> rfl) (fun p e s m below meth c ls X hin hW hl => hwb_J7_init_4 X hin hE hW hl)
def w_J8_init_4 (G : GG) (hp : HP) (this : Nat) (a1 : Option Nat) (a2 : Option Nat) (a3 : Int) (a4 : Int) (Q : HP → Prop) : Prop :=
  w_J7_init_4 G hp this a1 a2 a3 a4 (fun hp1 => Q hp1)
theorem hd_J8_init_4 : yJ8_init_4.cls ≠ "java/lang/invoke/MethodHandle" ∧ yJ8_init_4.cls ≠ "java/lang/invoke/VarHandle" ∧ (parseMethodDescriptor yJ8_init_4.desc).map (fun d => d.parameters.length) = some 4 := by decide +kernel
theorem hwb_J8_init_4 {p : Program} {l : Launch} {e : Env} {s : State} {m : MethodId} {args : Array Value} {below : List Frame} {meth : Method} {c : Code} {G : GG} (X : CX p s m args meth c cJ8_init_4 5 RJ8 none G) (hin : meth.name = "<init>") {Q : HP → Prop} {hp : HP} {this : Nat} {a1 : Option Nat} {a2 : Option Nat} {a3 : Int} {a4 : Int} (hE : w_J8_init_4 G hp this a1 a2 a3 a4 Q) {H : Heap} {locs : List Loc} {ls : Array Slot} (hW : WH G hp H locs) (hl : lv_has ls 5 [(0, .ref this), (1, va_rf a1), (2, va_rf a2), (3, vI a3), (4, vI a4)]) : W p l e (rmA 2 0 0) s m args below meth c H locs 0 0 (QH below G args s 0 0 (pV Q)) (F0 m 0 ls []) := by
  unfold w_J8_init_4 at hE
  refine e_aload_n X hl 0 rfl dJ8_init_4_0 rfl ?_
  refine e_aloadR_n X hl 1 rfl dJ8_init_4_1 rfl ?_
  refine e_aloadR_n X hl 2 rfl dJ8_init_4_2 rfl ?_
  refine e_iload_n X hl 3 rfl dJ8_init_4_3 rfl ?_
  refine e_iload X hl 4 rfl dJ8_init_4_4 ?_
  refine h_callI (rest := []) (As := [va_rf a1, va_rf a2, vI a3, vI a4]) X hW (mh_J7_init_4 l G hp this a1 a2 a3 a4 _ hE) (cwI 4 X.ht (lw_meth q2008) rfl rfl rfl (X.ht _ q136) (X.ht _ q2006) (X.ht _ q2007) rfl hd_J7_init_4 (cxH (by decide) (by decide))) rfl hl.1 rfl (Nat.le_of_ble_eq_true rfl) dJ8_init_4_6 ⟨(Nat.le_of_ble_eq_true rfl), (Nat.le_of_ble_eq_true rfl)⟩ (0) (0) rfl rfl (fun hp1 hE H locs hW => ?_)
  exact h_vret X hW hE (Nat.le_of_ble_eq_true rfl) (Nat.le_of_ble_eq_true rfl) dJ8_init_4_9
theorem mh_J8_init_4 (l : Launch) (G : GG) (hp : HP) (this : Nat) (a1 : Option Nat) (a2 : Option Nat) (a3 : Int) (a4 : Int) (Q : HP → Prop) (hE : w_J8_init_4 G hp this a1 a2 a3 a4 Q) : MH l yJ8_init_4 (ws_ yJ8_init_4 cJ8_init_4 5 none) 2 0 0 G [.ref this, va_rf a1, va_rf a2, vI a3, vI a4] hp (pV Q) :=
  MH.of (by decide +kernel) (by cases a1 <;> cases a2 <;> exact Nat.le_of_ble_eq_true rfl) (lv := [(0, .ref this), (1, va_rf a1), (2, va_rf a2), (3, vI a3), (4, vI a4)]) (by cases a1 <;> cases a2 <;> rfl) (fun p e s m below meth c ls X hin hW hl => hwb_J8_init_4 X hin hE hW hl)
def w_J9_init_4 (G : GG) (hp : HP) (this : Nat) (a1 : Option Nat) (a2 : Option Nat) (a3 : Int) (a4 : Int) (Q : HP → Prop) : Prop :=
  w_J8_init_4 G hp this a1 a2 a3 a4 (fun hp1 => Q hp1)
theorem hd_J9_init_4 : yJ9_init_4.cls ≠ "java/lang/invoke/MethodHandle" ∧ yJ9_init_4.cls ≠ "java/lang/invoke/VarHandle" ∧ (parseMethodDescriptor yJ9_init_4.desc).map (fun d => d.parameters.length) = some 4 := by decide +kernel
theorem hwb_J9_init_4 {p : Program} {l : Launch} {e : Env} {s : State} {m : MethodId} {args : Array Value} {below : List Frame} {meth : Method} {c : Code} {G : GG} (X : CX p s m args meth c cJ9_init_4 5 RJ9 none G) (hin : meth.name = "<init>") {Q : HP → Prop} {hp : HP} {this : Nat} {a1 : Option Nat} {a2 : Option Nat} {a3 : Int} {a4 : Int} (hE : w_J9_init_4 G hp this a1 a2 a3 a4 Q) {H : Heap} {locs : List Loc} {ls : Array Slot} (hW : WH G hp H locs) (hl : lv_has ls 5 [(0, .ref this), (1, va_rf a1), (2, va_rf a2), (3, vI a3), (4, vI a4)]) : W p l e (rmA 3 0 0) s m args below meth c H locs 0 0 (QH below G args s 0 0 (pV Q)) (F0 m 0 ls []) := by
  unfold w_J9_init_4 at hE
  refine e_aload_n X hl 0 rfl dJ9_init_4_0 rfl ?_
  refine e_aloadR_n X hl 1 rfl dJ9_init_4_1 rfl ?_
  refine e_aloadR_n X hl 2 rfl dJ9_init_4_2 rfl ?_
  refine e_iload_n X hl 3 rfl dJ9_init_4_3 rfl ?_
  refine e_iload X hl 4 rfl dJ9_init_4_4 ?_
  refine h_callI (rest := []) (As := [va_rf a1, va_rf a2, vI a3, vI a4]) X hW (mh_J8_init_4 l G hp this a1 a2 a3 a4 _ hE) (cwI 4 X.ht (lw_meth q2005) rfl rfl rfl (X.ht _ q137) (X.ht _ q2003) (X.ht _ q2004) rfl hd_J8_init_4 (cxH (by decide) (by decide))) rfl hl.1 rfl (Nat.le_of_ble_eq_true rfl) dJ9_init_4_6 ⟨(Nat.le_of_ble_eq_true rfl), (Nat.le_of_ble_eq_true rfl)⟩ (0) (0) rfl rfl (fun hp1 hE H locs hW => ?_)
  exact h_vret X hW hE (Nat.le_of_ble_eq_true rfl) (Nat.le_of_ble_eq_true rfl) dJ9_init_4_9
theorem mh_J9_init_4 (l : Launch) (G : GG) (hp : HP) (this : Nat) (a1 : Option Nat) (a2 : Option Nat) (a3 : Int) (a4 : Int) (Q : HP → Prop) (hE : w_J9_init_4 G hp this a1 a2 a3 a4 Q) : MH l yJ9_init_4 (ws_ yJ9_init_4 cJ9_init_4 5 none) 3 0 0 G [.ref this, va_rf a1, va_rf a2, vI a3, vI a4] hp (pV Q) :=
  MH.of (by decide +kernel) (by cases a1 <;> cases a2 <;> exact Nat.le_of_ble_eq_true rfl) (lv := [(0, .ref this), (1, va_rf a1), (2, va_rf a2), (3, vI a3), (4, vI a4)]) (by cases a1 <;> cases a2 <;> rfl) (fun p e s m below meth c ls X hin hW hl => hwb_J9_init_4 X hin hE hW hl)
def w_X8_init (G : GG) (hp : HP) (this : Nat) (a1 : Int) (Q : HP → Prop) : Prop :=
  w_J9_init_4 G hp this none none 0 0 (fun hp1 => hPut hp1 this 8 6 (vI a1) fun hp2 => Q hp2)
theorem hd_X8_init : yX8_init.cls ≠ "java/lang/invoke/MethodHandle" ∧ yX8_init.cls ≠ "java/lang/invoke/VarHandle" ∧ (parseMethodDescriptor yX8_init.desc).map (fun d => d.parameters.length) = some 1 := by decide +kernel
theorem hwb_X8_init {p : Program} {l : Launch} {e : Env} {s : State} {m : MethodId} {args : Array Value} {below : List Frame} {meth : Method} {c : Code} {G : GG} (X : CX p s m args meth c cX8_init 2 RX8 none G) (hin : meth.name = "<init>") {Q : HP → Prop} {hp : HP} {this : Nat} {a1 : Int} (hE : w_X8_init G hp this a1 Q) {H : Heap} {locs : List Loc} {ls : Array Slot} (hW : WH G hp H locs) (hl : lv_has ls 2 [(0, .ref this), (1, vI a1)]) : W p l e (rmA 4 0 0) s m args below meth c H locs 0 0 (QH below G args s 0 0 (pV Q)) (F0 m 0 ls []) := by
  unfold w_X8_init at hE
  refine e_aload_n X hl 0 rfl dX8_init_0 rfl ?_
  refine e_nullw X dX8_init_1 ?_
  refine e_nullw X dX8_init_2 ?_
  refine e_iconst X dX8_init_3 ?_
  refine e_iconst X dX8_init_4 ?_
  refine h_callI (rest := []) (As := [va_rf none, va_rf none, vI 0, vI 0]) X hW (mh_J9_init_4 l G hp this none none 0 0 _ hE) (cwI 4 X.ht (lw_meth q2002) rfl rfl rfl (X.ht _ q138) (X.ht _ q2000) (X.ht _ q2001) rfl hd_J9_init_4 (cxH (by decide) (by decide))) rfl hl.1 rfl (Nat.le_of_ble_eq_true rfl) dX8_init_5 ⟨(Nat.le_of_ble_eq_true rfl), (Nat.le_of_ble_eq_true rfl)⟩ (0) (0) rfl rfl (fun hp1 hE H locs hW => ?_)
  refine e_aload_n X hl 0 rfl dX8_init_8 rfl ?_
  refine e_iload_n X hl 1 rfl dX8_init_9 rfl ?_
  refine h_putF X hW ck_X8 (k := 6) hE (by decide) q2009 (fun _ h => h) rfl hin rfl rfl (fit_I _) dX8_init_10 (fun hp2 hE H locs hW => ?_)
  exact h_vret X hW hE (Nat.le_of_ble_eq_true rfl) (Nat.le_of_ble_eq_true rfl) dX8_init_13
theorem mh_X8_init (l : Launch) (G : GG) (hp : HP) (this : Nat) (a1 : Int) (Q : HP → Prop) (hE : w_X8_init G hp this a1 Q) : MH l yX8_init (ws_ yX8_init cX8_init 2 none) 4 0 0 G [.ref this, vI a1] hp (pV Q) :=
  MH.of (by decide +kernel) (Nat.le_of_ble_eq_true rfl) rfl (fun p e s m below meth c ls X hin hW hl => hwb_X8_init X hin hE hW hl)
