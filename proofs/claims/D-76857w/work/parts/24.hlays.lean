/-! lays over the heap: by program (genDY2) -/
set_option maxRecDepth 100000
def w_X0_lays_L21 (G : GG) (this : Nat) (b_1 : Option Nat) (b_2 : Option Nat) (k : HP → Prop) : Nat → HP → Prop
  | 0, _ => False
  | n + 1, hp =>
    hNn b_2 fun b10 => hIs hp b10 21 (w_J24_hasNext G hp b10 (fun v12 hp11 => hIf (w32 v12 = 0) (k hp11) (hNn b_2 fun b13 => hIs hp11 b13 21 (w_J24_next G hp11 b13 (fun r15 hp14 => hCast hp14 7 r15 (hNn r15 fun b16 => hI hp14 b16 7 0 fun v17 => hNn r15 fun b18 => hI hp14 b18 7 1 fun v19 => hNn r15 fun b20 => hI hp14 b20 7 2 fun v21 => hNn r15 fun b22 => hI hp14 b22 7 3 fun v23 => hNn r15 fun b24 => hJ hp14 b24 7 4 fun v25 => hNn b_1 fun b26 => hIs hp14 b26 1 (w_X1_adds G hp14 b26 v17 v19 v21 v23 v25 (fun hp27 => w_X0_lays_L21 G this b_1 b_2 k n hp27))))))))
def w_X0_lays (G : GG) (hp : HP) (this : Nat) (a1 : Option Nat) (Q : HP → Prop) : Prop :=
  hI hp this 0 0 fun v1 => hNn a1 fun b2 => hPut hp b2 1 12 (vI v1) fun hp3 => hNn a1 fun b4 => hPut hp3 b4 1 13 (vI 0) fun hp5 => hR hp5 this 0 2 fun r6 => hNn r6 fun b7 => hIs hp5 b7 12 (w_J2_iterator G hp5 b7 (fun r9 hp8 => ∃ n : Nat, w_X0_lays_L21 G this a1 r9 (fun (hp28 : HP) => hR hp28 this 0 1 fun r29 => hNn a1 fun b30 => hR hp28 b30 1 6 fun r31 => hNn r31 fun b32 => hNn r29 fun b33 => hCpI G hp28 b33 0 b32 0 8 fun hp34 => Q hp34) n hp8))
theorem hd_X0_lays : yX0_lays.cls = RX0 ∧ yX0_lays.cls ≠ "java/lang/invoke/MethodHandle" ∧ yX0_lays.cls ≠ "java/lang/invoke/VarHandle" ∧ (parseMethodDescriptor yX0_lays.desc).map (fun d => d.parameters.length) = some 1 := by decide +kernel
theorem hwl_X0_lays_21 {p : Program} {l : Launch} {e : Env} {s : State} {m : MethodId} {args : Array Value} {below : List Frame} {meth : Method} {c : Code} {G : GG} (X : CX p s m args meth c cX0_lays 4 RX0 none G) {Q : HP → Prop} {this : Nat} {b_1 : Option Nat} {b_2 : Option Nat} {k : HP → Prop} : ∀ (n : Nat) (hp : HP) (H : Heap) (locs : List Loc) (ls : Array Slot) (hE : w_X0_lays_L21 G this b_1 b_2 k n hp) (hW : WH G hp H locs) (hl : lv_has ls 4 [(0, .ref this), (1, va_rf b_1), (2, va_rf b_2)]) (hk : ∀ (hp : HP) (H : Heap) (locs : List Loc) (ls : Array Slot), WH G hp H locs → lv_has ls 4 [(0, .ref this), (1, va_rf b_1), (2, va_rf b_2)] → k hp → W p l e (rmA 5 1 5) s m args below meth c H locs (1) (5) (QH below G args s 1 5 (pV Q)) (F0 m 67 ls [])), W p l e (rmA 5 1 5) s m args below meth c H locs (1) (5) (QH below G args s 1 5 (pV Q)) (F0 m 21 ls []) := by
  intro n
  induction n with
  | zero =>
    intro hp H locs ls hE hW hl hk
    unfold w_X0_lays_L21 at hE
    exact hE.elim
  | succ n ih =>
    intro hp H locs ls hE hW hl hk
    unfold w_X0_lays_L21 at hE
    refine e_aloadR_n X hl 2 rfl dX0_lays_21 rfl ?_
    refine h_nn0 hE (fun b10 hE => ?_)
    obtain ⟨⟨fs, he⟩, hE⟩ := hE
    refine h_callFI (rest := []) (As := []) X hW he ck_J24 (mh_J24_hasNext l G hp b10 _ hE) (cwH_F X 0 q866 q892 q894 q158 q896 (by decide +kernel) (by decide +kernel) (by decide) (by decide)) rfl hl.1 rfl (Nat.le_of_ble_eq_true rfl) dX0_lays_22 ⟨(Nat.le_of_ble_eq_true rfl), (Nat.le_of_ble_eq_true rfl)⟩ (1) (5) rfl rfl (fun v12 hp11 hE H locs hW => ?_)
    refine h_if_eq X (w32 v12) rfl hE dX0_lays_27 rfl (fun hE => ?_) (fun hE => ?_)
    · exact hk hp11 _ _ _ hW (lv_sub hl [0, 1, 2] rfl) hE
    · refine e_aloadR_n X hl 2 rfl dX0_lays_30 rfl ?_
      refine h_nn0 hE (fun b13 hE => ?_)
      obtain ⟨⟨fs, he⟩, hE⟩ := hE
      refine h_callFR (rest := []) (As := []) X hW he ck_J24 (mh_J24_next l G hp11 b13 _ hE) (cwH_F X 0 q917 q1103 q1105 q158 q1107 (by decide +kernel) (by decide +kernel) (by decide) (by decide)) rfl hl.1 rfl (Nat.le_of_ble_eq_true rfl) dX0_lays_31 ⟨(Nat.le_of_ble_eq_true rfl), (Nat.le_of_ble_eq_true rfl)⟩ (1) (5) rfl rfl (fun r15 hp14 hE H locs hW => ?_)
      refine h_castS X hW ck_X7 (r := r15) hE q1152 dX0_lays_36 (fun hE => ?_)
      refine e_astoreR_n X hl [(3, va_rf r15), (0, .ref this), (1, va_rf b_1), (2, va_rf b_2)] dX0_lays_39 rfl (by decide) (by generalize b_2 = r; cases r <;> rfl) (fun ls hl => ?_)
      refine e_aloadR_n X hl 2 rfl dX0_lays_40 rfl ?_
      refine e_aloadR_n X hl 0 rfl dX0_lays_41 rfl ?_
      refine h_nn0 hE (fun b16 hE => ?_)
      refine h_getNI X hW ck_X7 (k := 0) hE (by decide) q1359 (fun _ h => h) dX0_lays_42 (fun v17 hE => ?_)
      refine e_aloadR_n X hl 0 rfl dX0_lays_45 rfl ?_
      refine h_nn0 hE (fun b18 hE => ?_)
      refine h_getNI X hW ck_X7 (k := 1) hE (by decide) q1361 (fun _ h => h) dX0_lays_46 (fun v19 hE => ?_)
      refine e_aloadR_n X hl 0 rfl dX0_lays_49 rfl ?_
      refine h_nn0 hE (fun b20 hE => ?_)
      refine h_getNI X hW ck_X7 (k := 2) hE (by decide) q1363 (fun _ h => h) dX0_lays_50 (fun v21 hE => ?_)
      refine e_aloadR_n X hl 0 rfl dX0_lays_53 rfl ?_
      refine h_nn0 hE (fun b22 hE => ?_)
      refine h_getNI X hW ck_X7 (k := 3) hE (by decide) q1365 (fun _ h => h) dX0_lays_54 (fun v23 hE => ?_)
      refine e_aloadR_n X hl 0 rfl dX0_lays_57 rfl ?_
      refine h_nn0 hE (fun b24 hE => ?_)
      refine h_getNJ X hW ck_X7 (k := 4) hE (by decide) q1367 (fun _ h => h) dX0_lays_58 (fun v25 hE => ?_)
      refine h_nn5 hE (fun b26 hE => ?_)
      obtain ⟨⟨fs, he⟩, hE⟩ := hE
      refine h_callVV (rest := []) (As := [vI v17, vI v19, vI v21, vI v23, vL v25]) X hW he ck_X1 (mh_X1_adds l G hp14 b26 v17 v19 v21 v23 v25 _ hE) (cwV 5 X.ht (lw_V q2079 q2080 q2081 q132 q2082) rfl rfl rfl hd_X1_adds (cxH (by decide) (by decide))) rfl hl.1 rfl (Nat.le_of_ble_eq_true rfl) dX0_lays_61 ⟨(Nat.le_of_ble_eq_true rfl), (Nat.le_of_ble_eq_true rfl)⟩ (1) (5) rfl rfl (fun hp27 hE H locs hW => ?_)
      refine e_goto X dX0_lays_64 rfl ?_
      exact ih hp27 _ _ _ hE hW (lv_sub hl [1, 2, 3] rfl) hk
theorem hwb_X0_lays {p : Program} {l : Launch} {e : Env} {s : State} {m : MethodId} {args : Array Value} {below : List Frame} {meth : Method} {c : Code} {G : GG} (X : CX p s m args meth c cX0_lays 4 RX0 none G) {Q : HP → Prop} {hp : HP} {this : Nat} {a1 : Option Nat} (hE : w_X0_lays G hp this a1 Q) {H : Heap} {locs : List Loc} {ls : Array Slot} (hW : WH G hp H locs) (hl : lv_has ls 4 [(0, .ref this), (1, va_rf a1)]) : W p l e (rmA 5 1 5) s m args below meth c H locs 0 0 (QH below G args s 1 5 (pV Q)) (F0 m 0 ls []) := by
  unfold w_X0_lays at hE
  refine e_aloadR_n X hl 1 rfl dX0_lays_0 rfl ?_
  refine e_aload_n X hl 0 rfl dX0_lays_1 rfl ?_
  refine h_getI X hW ck_X0 (k := 0) hE (by decide) q1224 (fun _ h => h) dX0_lays_2 (fun v1 hE => ?_)
  refine h_nn1 hE (fun b2 hE => ?_)
  refine h_putN X hW ck_X1 (k := 12) hE (by decide) q682 (fun _ h => h) rfl rfl (fit_I _) dX0_lays_5 (fun hp3 hE H locs hW => ?_)
  refine e_aloadR_n X hl 1 rfl dX0_lays_8 rfl ?_
  refine e_iconst X dX0_lays_9 ?_
  refine h_nn1 hE (fun b4 hE => ?_)
  refine h_putN X hW ck_X1 (k := 13) hE (by decide) q685 (fun _ h => h) rfl rfl (fit_I _) dX0_lays_10 (fun hp5 hE H locs hW => ?_)
  refine e_aload_n X hl 0 rfl dX0_lays_13 rfl ?_
  refine h_getR X hW ck_X0 (k := 2) hE (by decide) q1226 (fun _ h => h) dX0_lays_14 (fun r6 hE => ?_)
  refine h_nn0 hE (fun b7 hE => ?_)
  obtain ⟨⟨fs, he⟩, hE⟩ := hE
  refine h_callUR (rest := []) (As := []) X hW he ck_J3 (mh_J2_iterator l G hp5 b7 _ hE) (cwH_U X 0 q812 q813 q815 q816 q130 q817 q814 (by decide +kernel) (by decide) (by decide)) rfl hl.1 rfl (Nat.le_of_ble_eq_true rfl) dX0_lays_17 ⟨(Nat.le_of_ble_eq_true rfl), (Nat.le_of_ble_eq_true rfl)⟩ (1) (5) rfl rfl (fun r9 hp8 hE H locs hW => ?_)
  refine e_astoreR_n X hl [(2, va_rf r9), (0, .ref this), (1, va_rf a1)] dX0_lays_20 rfl (by decide) (by generalize a1 = r; cases r <;> rfl) (fun ls hl => ?_)
  obtain ⟨n, hE⟩ := hE
  refine hwl_X0_lays_21 X n hp8 _ _ _ hE hW (lv_sub hl [1, 2, 0] rfl) (fun hp28 H locs ls hW hl hE => ?_)
  refine e_aload_n X hl 0 rfl dX0_lays_67 rfl ?_
  refine h_getR X hW ck_X0 (k := 1) hE (by decide) q1225 (fun _ h => h) dX0_lays_68 (fun r29 hE => ?_)
  refine e_iconst X dX0_lays_71 ?_
  refine e_aloadR_n X hl 1 rfl dX0_lays_72 rfl ?_
  refine h_nn0 hE (fun b30 hE => ?_)
  refine h_getNR X hW ck_X1 (k := 6) hE (by decide) q675 (fun _ h => h) dX0_lays_73 (fun r31 hE => ?_)
  refine e_iconst X dX0_lays_76 ?_
  refine e_bipush X dX0_lays_77 (by decide) ?_
  refine h_nn2 hE (fun b32 hE => ?_)
  refine h_nn4 hE (fun b33 hE => ?_)
  refine h_copyI X hW hl.1 hE q1343 (dd := 4) rfl (Nat.le_of_ble_eq_true rfl) dX0_lays_79 (fun hp34 hE H locs hW => ?_)
  exact h_vret X hW hE (Nat.le_of_ble_eq_true rfl) (Nat.le_of_ble_eq_true rfl) dX0_lays_82
theorem mh_X0_lays (l : Launch) (G : GG) (hp : HP) (this : Nat) (a1 : Option Nat) (Q : HP → Prop) (hE : w_X0_lays G hp this a1 Q) : MH l yX0_lays (ws_ yX0_lays cX0_lays 4 none) 5 1 5 G [.ref this, va_rf a1] hp (pV Q) :=
  MH.of (by decide +kernel) (by cases a1 <;> exact Nat.le_of_ble_eq_true rfl) (lv := [(0, .ref this), (1, va_rf a1)]) (by cases a1 <;> rfl) (fun p e s m below meth c ls X hin hW hl => hwb_X0_lays X hE hW hl)
