/-! 11 X ROWS: writes, calls and ends in the x-world -/
set_option maxRecDepth 100000
def sB (n : Nat) (M : RM) (c : Nat) (i x : Int) : Option RM := if (0 ≤ i ∧ i < n) ∧ (-128 ≤ x ∧ x < 128) then some (up2 M c i.toNat x) else none
theorem sB_some {n : Nat} {M M' : RM} {c : Nat} {i x : Int} (h : sB n M c i x = some M') : ((0 ≤ i ∧ i < n) ∧ (-128 ≤ x ∧ x < 128)) ∧ M' = up2 M c i.toNat x := by
  unfold sB at h
  by_cases g : (0 ≤ i ∧ i < n) ∧ (-128 ≤ x ∧ x < 128)
  · rw [if_pos g] at h; cases h; exact ⟨g, rfl⟩
  · rw [if_neg g] at h; cases h
theorem nar_byte {x : Int} (h : -128 ≤ x ∧ x < 128) : vp_nar .byte (Int32.ofInt x) = Int32.ofInt x := by
  rw [vp_nar_byte]
  apply Int32.toInt_inj.mp
  rw [Int8.toInt_toInt32, Int32.toInt_toInt8, toInt_w32, w32_of (by omega) (by omega), Int.bmod_def]
  omega
theorem mg_self (D : rw_D) (M : RM) : mg D M M = M := by
  funext c
  unfold mg
  cases D c <;> rfl
noncomputable def lk {α : Type} (M0 M1 : RM) (e : Option α) : Option α := @ite (Option α) (M1 = M0) (Classical.propDecidable _) e none
theorem lk_s {α : Type} (M0 : RM) (e : Option α) : lk M0 M0 e = e := by
  unfold lk
  exact @if_pos _ (Classical.propDecidable _) rfl _ _ _
theorem lk_some {α : Type} {M0 M1 : RM} {e : Option α} {out : α} (h : lk M0 M1 e = some out) : M1 = M0 ∧ e = some out := by
  unfold lk at h
  by_cases g : M1 = M0
  · rw [@if_pos _ (Classical.propDecidable _) g] at h; exact ⟨g, h⟩
  · rw [@if_neg _ (Classical.propDecidable _) g] at h; cases h
section XRS
variable {p : Program} {l : Launch} {e : Env} {R : Room} {s : State} {m : MethodId} {args : Array Value} {below : List Frame} {meth : Method} {c : Code} {H : Heap} {locs : List Loc} {cells slots : Nat} {Q : State → Prop} {cc : ByteArray} {nL : Nat} {own : String} {ret : Option FieldType} {G : GG} {pc : Nat} {ls : Array Slot} {rest : List Value} {α : Type} {out : α} {C : String} {T : u_T} {N ci : Nat} {ty : Nat → FieldType} {index : Nat} {ref : String} {ad : Nat → Nat} {hp0 : HP} {M : RM} {fds : List (Nat × Nat)}
theorem r_bast {D : rw_D} (X : CX p s m args meth c cc nL own ret G) (hM : RW G D ad hp0 M H locs) (o : Nat) {n : Nat} (hd : D o = some (.inl (3, n))) (hn : n ≤ 100000000) {i x : Int} {f : RM → Option α} (hE : ob (sB n M o i x) f = some out) (hdg : decode cc pc = .ok (.bastore, 1)) (kk : ∀ M1 : RM, f M1 = some out → ∀ (H1 : Heap) (locs1 : List Loc), RW G D ad hp0 M1 H1 locs1 → W p l e R s m args below meth c H1 locs1 cells slots Q (F0 m (pc + 1) ls rest)) : W p l e R s m args below meth c H locs cells slots Q (F0 m pc ls (vI x :: vI i :: .ref (ad o) :: rest)) := by
  obtain ⟨M', h1, hE⟩ := ob_some hE
  obtain ⟨hi, rfl⟩ := sB_some h1
  obtain ⟨hi, hz⟩ := hi
  have hz := nar_byte hz
  obtain ⟨⟨hp, hW, hP, hF⟩, hL⟩ := hM
  obtain ⟨i1, i2⟩ := i32_in hi hn
  refine hw_bast X hW hL (hP.1 o _ hd) i1 hdg (fun H1 locs1 g1 g2 => ?_)
  refine kk _ hE H1 locs1 (RW_up hd hP hF ?_ g1 g2)
  show (Sum.inl (G.2.1 3, n, _) : va_E) = Sum.inl (G.2.1 3, n, rwa ad 3 (up2 M o i.toNat x o))
  congr 3
  rw [i2]
  rw [hz]
  show _ = rwa ad 3 (up2 M o i.toNat x o)
  unfold rwa
  congr 1
  funext j
  by_cases h : j = i.toNat
  · subst h; simp [upd, up2_s]
  · simp [upd, h, up2_j h]
theorem x_putI (X : CX p s m args meth c cc nL own ret G) (hX : XR G ad hp0 M H locs) (ck : CK ci C T N ty) (o k : Nat) (hd : dX o = some (.inr (ci, fds))) (h2 : o ≠ 40 ∨ (k ≠ 12 ∧ k ≠ 31)) (hf : fds[k]? = some (0, 0)) (hk : k < N) (hq : Cond.fieldLink own index ref (T k).2.1 (T k).2.2.1 ∈ lw_all) (hs : (T k).1 = ref) (hfin : (T k).2.2.2 = false) {x : Int} {f : RM → Option α} (hE : jn (up2 M o k x) f = some out) (ht : ty k = .int) (hdg : decode cc pc = .ok (.putfield index, 3)) (kk : ∀ M1 : RM, f M1 = some out → ∀ (H1 : Heap) (locs1 : List Loc), XR G ad hp0 M1 H1 locs1 → W p l e R s m args below meth c H1 locs1 cells slots Q (F0 m (pc + 3) ls rest)) : W p l e R s m args below meth c H locs cells slots Q (F0 m pc ls (vI x :: .ref (ad o) :: rest)) :=
  r_putI X hX.1 ck o k hd hf hk hq hs hfin (f := fun M1 => lk (up2 M o k x) M1 (f M1)) (by show lk _ _ _ = some out; rw [lk_s]; exact hE) ht hdg (fun M1 h1 H1 locs1 hM1 => by
    obtain ⟨e, h9⟩ := lk_some h1
    subst e
    exact kk _ h9 H1 locs1 ⟨hM1, by rw [vw_up (by rw [hd]; exact fun z => by cases z) h2]; exact hX.2⟩)
theorem x_putZ (X : CX p s m args meth c cc nL own ret G) (hX : XR G ad hp0 M H locs) (ck : CK ci C T N ty) (o k : Nat) (hd : dX o = some (.inr (ci, fds))) (h2 : o ≠ 40 ∨ (k ≠ 12 ∧ k ≠ 31)) (hf : fds[k]? = some (0, 0)) (hk : k < N) (hq : Cond.fieldLink own index ref (T k).2.1 (T k).2.2.1 ∈ lw_all) (hs : (T k).1 = ref) (hfin : (T k).2.2.2 = false) {x : Int} {f : RM → Option α} (hE : jn (up2 M o k x) f = some out) (hz : x = 0 ∨ x = 1) (ht : ty k = .boolean) (hdg : decode cc pc = .ok (.putfield index, 3)) (kk : ∀ M1 : RM, f M1 = some out → ∀ (H1 : Heap) (locs1 : List Loc), XR G ad hp0 M1 H1 locs1 → W p l e R s m args below meth c H1 locs1 cells slots Q (F0 m (pc + 3) ls rest)) : W p l e R s m args below meth c H locs cells slots Q (F0 m pc ls (vI x :: .ref (ad o) :: rest)) :=
  r_putZ X hX.1 ck o k hd hf hk hq hs hfin (f := fun M1 => lk (up2 M o k x) M1 (f M1)) (by show lk _ _ _ = some out; rw [lk_s]; exact hE) hz ht hdg (fun M1 h1 H1 locs1 hM1 => by
    obtain ⟨e, h9⟩ := lk_some h1
    subst e
    exact kk _ h9 H1 locs1 ⟨hM1, by rw [vw_up (by rw [hd]; exact fun z => by cases z) h2]; exact hX.2⟩)
theorem x_putJ (X : CX p s m args meth c cc nL own ret G) (hX : XR G ad hp0 M H locs) (ck : CK ci C T N ty) (o k : Nat) (hd : dX o = some (.inr (ci, fds))) (h2 : o ≠ 40 ∨ (k ≠ 12 ∧ k ≠ 31)) (hf : fds[k]? = some (1, 0)) (hk : k < N) (hq : Cond.fieldLink own index ref (T k).2.1 (T k).2.2.1 ∈ lw_all) (hs : (T k).1 = ref) (hfin : (T k).2.2.2 = false) {x : Int} {f : RM → Option α} (hE : jn (up2 M o k x) f = some out) (ht : ty k = .long) (hdg : decode cc pc = .ok (.putfield index, 3)) (kk : ∀ M1 : RM, f M1 = some out → ∀ (H1 : Heap) (locs1 : List Loc), XR G ad hp0 M1 H1 locs1 → W p l e R s m args below meth c H1 locs1 cells slots Q (F0 m (pc + 3) ls rest)) : W p l e R s m args below meth c H locs cells slots Q (F0 m pc ls (vL x :: .ref (ad o) :: rest)) :=
  r_putJ X hX.1 ck o k hd hf hk hq hs hfin (f := fun M1 => lk (up2 M o k x) M1 (f M1)) (by show lk _ _ _ = some out; rw [lk_s]; exact hE) ht hdg (fun M1 h1 H1 locs1 hM1 => by
    obtain ⟨e, h9⟩ := lk_some h1
    subst e
    exact kk _ h9 H1 locs1 ⟨hM1, by rw [vw_up (by rw [hd]; exact fun z => by cases z) h2]; exact hX.2⟩)
theorem x_putNI (X : CX p s m args meth c cc nL own ret G) (hX : XR G ad hp0 M H locs) (ck : CK ci C T N ty) (o k : Nat) (hd : dX o = some (.inr (ci, fds))) (h2 : o ≠ 40 ∨ (k ≠ 12 ∧ k ≠ 31)) (hf : fds[k]? = some (0, 0)) (hk : k < N) {host : String} (hq : Cond.fieldLinkNest own index ref (T k).2.1 (T k).2.2.1 host ∈ lw_tbl) (hs : (T k).1 = ref) (hfin : (T k).2.2.2 = false) {x : Int} {f : RM → Option α} (hE : jn (up2 M o k x) f = some out) (ht : ty k = .int) (hdg : decode cc pc = .ok (.putfield index, 3)) (kk : ∀ M1 : RM, f M1 = some out → ∀ (H1 : Heap) (locs1 : List Loc), XR G ad hp0 M1 H1 locs1 → W p l e R s m args below meth c H1 locs1 cells slots Q (F0 m (pc + 3) ls rest)) : W p l e R s m args below meth c H locs cells slots Q (F0 m pc ls (vI x :: .ref (ad o) :: rest)) :=
  r_putNI X hX.1 ck o k hd hf hk hq hs hfin (f := fun M1 => lk (up2 M o k x) M1 (f M1)) (by show lk _ _ _ = some out; rw [lk_s]; exact hE) ht hdg (fun M1 h1 H1 locs1 hM1 => by
    obtain ⟨e, h9⟩ := lk_some h1
    subst e
    exact kk _ h9 H1 locs1 ⟨hM1, by rw [vw_up (by rw [hd]; exact fun z => by cases z) h2]; exact hX.2⟩)
theorem x_putNZ (X : CX p s m args meth c cc nL own ret G) (hX : XR G ad hp0 M H locs) (ck : CK ci C T N ty) (o k : Nat) (hd : dX o = some (.inr (ci, fds))) (h2 : o ≠ 40 ∨ (k ≠ 12 ∧ k ≠ 31)) (hf : fds[k]? = some (0, 0)) (hk : k < N) {host : String} (hq : Cond.fieldLinkNest own index ref (T k).2.1 (T k).2.2.1 host ∈ lw_tbl) (hs : (T k).1 = ref) (hfin : (T k).2.2.2 = false) {x : Int} {f : RM → Option α} (hE : jn (up2 M o k x) f = some out) (hz : x = 0 ∨ x = 1) (ht : ty k = .boolean) (hdg : decode cc pc = .ok (.putfield index, 3)) (kk : ∀ M1 : RM, f M1 = some out → ∀ (H1 : Heap) (locs1 : List Loc), XR G ad hp0 M1 H1 locs1 → W p l e R s m args below meth c H1 locs1 cells slots Q (F0 m (pc + 3) ls rest)) : W p l e R s m args below meth c H locs cells slots Q (F0 m pc ls (vI x :: .ref (ad o) :: rest)) :=
  r_putNZ X hX.1 ck o k hd hf hk hq hs hfin (f := fun M1 => lk (up2 M o k x) M1 (f M1)) (by show lk _ _ _ = some out; rw [lk_s]; exact hE) hz ht hdg (fun M1 h1 H1 locs1 hM1 => by
    obtain ⟨e, h9⟩ := lk_some h1
    subst e
    exact kk _ h9 H1 locs1 ⟨hM1, by rw [vw_up (by rw [hd]; exact fun z => by cases z) h2]; exact hX.2⟩)
theorem x_putNJ (X : CX p s m args meth c cc nL own ret G) (hX : XR G ad hp0 M H locs) (ck : CK ci C T N ty) (o k : Nat) (hd : dX o = some (.inr (ci, fds))) (h2 : o ≠ 40 ∨ (k ≠ 12 ∧ k ≠ 31)) (hf : fds[k]? = some (1, 0)) (hk : k < N) {host : String} (hq : Cond.fieldLinkNest own index ref (T k).2.1 (T k).2.2.1 host ∈ lw_tbl) (hs : (T k).1 = ref) (hfin : (T k).2.2.2 = false) {x : Int} {f : RM → Option α} (hE : jn (up2 M o k x) f = some out) (ht : ty k = .long) (hdg : decode cc pc = .ok (.putfield index, 3)) (kk : ∀ M1 : RM, f M1 = some out → ∀ (H1 : Heap) (locs1 : List Loc), XR G ad hp0 M1 H1 locs1 → W p l e R s m args below meth c H1 locs1 cells slots Q (F0 m (pc + 3) ls rest)) : W p l e R s m args below meth c H locs cells slots Q (F0 m pc ls (vL x :: .ref (ad o) :: rest)) :=
  r_putNJ X hX.1 ck o k hd hf hk hq hs hfin (f := fun M1 => lk (up2 M o k x) M1 (f M1)) (by show lk _ _ _ = some out; rw [lk_s]; exact hE) ht hdg (fun M1 h1 H1 locs1 hM1 => by
    obtain ⟨e, h9⟩ := lk_some h1
    subst e
    exact kk _ h9 H1 locs1 ⟨hM1, by rw [vw_up (by rw [hd]; exact fun z => by cases z) h2]; exact hX.2⟩)
theorem x_iast (X : CX p s m args meth c cc nL own ret G) (hX : XR G ad hp0 M H locs) (o : Nat) {n : Nat} (hd : dX o = some (.inl (0, n))) (h2 : o ≠ 40) (hn : n ≤ 100000000) {i x : Int} {f : RM → Option α} (hE : ob (sA n M o i x) f = some out) (hdg : decode cc pc = .ok (.iastore, 1)) (kk : ∀ M1 : RM, f M1 = some out → ∀ (H1 : Heap) (locs1 : List Loc), XR G ad hp0 M1 H1 locs1 → W p l e R s m args below meth c H1 locs1 cells slots Q (F0 m (pc + 1) ls rest)) : W p l e R s m args below meth c H locs cells slots Q (F0 m pc ls (vI x :: vI i :: .ref (ad o) :: rest)) := by
  obtain ⟨M', h1, hE2⟩ := ob_some hE
  have h3 := (sA_some h1).2
  refine r_iast X hX.1 o hd hn (f := fun M1 => lk M' M1 (f M1)) (by rw [h1]; show lk _ _ _ = some out; rw [lk_s]; exact hE2) hdg (fun M1 h1 H1 locs1 hM1 => ?_)
  obtain ⟨e, h9⟩ := lk_some h1
  subst e
  exact kk _ h9 H1 locs1 ⟨hM1, by rw [h3, vw_up (by rw [hd]; exact fun z => by cases z) (Or.inl h2)]; exact hX.2⟩
theorem x_last (X : CX p s m args meth c cc nL own ret G) (hX : XR G ad hp0 M H locs) (o : Nat) {n : Nat} (hd : dX o = some (.inl (1, n))) (h2 : o ≠ 40) (hn : n ≤ 100000000) {i x : Int} {f : RM → Option α} (hE : ob (sA n M o i x) f = some out) (hdg : decode cc pc = .ok (.lastore, 1)) (kk : ∀ M1 : RM, f M1 = some out → ∀ (H1 : Heap) (locs1 : List Loc), XR G ad hp0 M1 H1 locs1 → W p l e R s m args below meth c H1 locs1 cells slots Q (F0 m (pc + 1) ls rest)) : W p l e R s m args below meth c H locs cells slots Q (F0 m pc ls (vL x :: vI i :: .ref (ad o) :: rest)) := by
  obtain ⟨M', h1, hE2⟩ := ob_some hE
  have h3 := (sA_some h1).2
  refine r_last X hX.1 o hd hn (f := fun M1 => lk M' M1 (f M1)) (by rw [h1]; show lk _ _ _ = some out; rw [lk_s]; exact hE2) hdg (fun M1 h1 H1 locs1 hM1 => ?_)
  obtain ⟨e, h9⟩ := lk_some h1
  subst e
  exact kk _ h9 H1 locs1 ⟨hM1, by rw [h3, vw_up (by rw [hd]; exact fun z => by cases z) (Or.inl h2)]; exact hX.2⟩
theorem x_zast (X : CX p s m args meth c cc nL own ret G) (hX : XR G ad hp0 M H locs) (o : Nat) {n : Nat} (hd : dX o = some (.inl (2, n))) (h2 : o ≠ 40) (hn : n ≤ 100000000) {i x : Int} {f : RM → Option α} (hE : ob (sZ n M o i x) f = some out) (hdg : decode cc pc = .ok (.bastore, 1)) (kk : ∀ M1 : RM, f M1 = some out → ∀ (H1 : Heap) (locs1 : List Loc), XR G ad hp0 M1 H1 locs1 → W p l e R s m args below meth c H1 locs1 cells slots Q (F0 m (pc + 1) ls rest)) : W p l e R s m args below meth c H locs cells slots Q (F0 m pc ls (vI x :: vI i :: .ref (ad o) :: rest)) := by
  obtain ⟨M', h1, hE2⟩ := ob_some hE
  have h3 := (sZ_some h1).2
  refine r_zast X hX.1 o hd hn (f := fun M1 => lk M' M1 (f M1)) (by rw [h1]; show lk _ _ _ = some out; rw [lk_s]; exact hE2) hdg (fun M1 h1 H1 locs1 hM1 => ?_)
  obtain ⟨e, h9⟩ := lk_some h1
  subst e
  exact kk _ h9 H1 locs1 ⟨hM1, by rw [h3, vw_up (by rw [hd]; exact fun z => by cases z) (Or.inl h2)]; exact hX.2⟩
theorem x_bast (X : CX p s m args meth c cc nL own ret G) (hX : XR G ad hp0 M H locs) (o : Nat) {n : Nat} (hd : dX o = some (.inl (3, n))) (h2 : o ≠ 40) (hn : n ≤ 100000000) {i x : Int} {f : RM → Option α} (hE : ob (sB n M o i x) f = some out) (hdg : decode cc pc = .ok (.bastore, 1)) (kk : ∀ M1 : RM, f M1 = some out → ∀ (H1 : Heap) (locs1 : List Loc), XR G ad hp0 M1 H1 locs1 → W p l e R s m args below meth c H1 locs1 cells slots Q (F0 m (pc + 1) ls rest)) : W p l e R s m args below meth c H locs cells slots Q (F0 m pc ls (vI x :: vI i :: .ref (ad o) :: rest)) := by
  obtain ⟨M', h1, hE2⟩ := ob_some hE
  have h3 := (sB_some h1).2
  refine r_bast X hX.1 o hd hn (f := fun M1 => lk M' M1 (f M1)) (by rw [h1]; show lk _ _ _ = some out; rw [lk_s]; exact hE2) hdg (fun M1 h1 H1 locs1 hM1 => ?_)
  obtain ⟨e, h9⟩ := lk_some h1
  subst e
  exact kk _ h9 H1 locs1 ⟨hM1, by rw [h3, vw_up (by rw [hd]; exact fun z => by cases z) (Or.inl h2)]; exact hX.2⟩
/-- an x-method's contract: from the world M with these arguments, it answers and leaves what Z says -/
def MX (l : Launch) (y : MethodName) (ws : List Cond) (d mc ms : Nat) (G : GG) (ad : Nat → Nat) (As : List Value) (M : RM) (Z : Option Value → RM → Prop) : Prop :=
  Met l y ws (rmA d mc ms) (va_Pc As (fun U => KG G U ∧ XWh G ad M U.heap)) (fun _ _ oc t => ∃ (rv : Option Value) (M1 : RM), oc = .returned rv ∧ Z rv M1 ∧ XWh G ad M1 t.heap) mc ms (fun q => G.2.2.size ≤ q)
def Zd (rv : Option Value) (M' : RM) : Option Value → RM → Prop := fun r M1 => r = rv ∧ M1 = M'
def QX (below : List Frame) (G : GG) (ad : Nat → Nat) (args : Array Value) (s : State) (mc ms : Nat) (Z : Option Value → RM → Prop) : State → Prop :=
  MQ below (fun _ _ oc t => ∃ (rv : Option Value) (M1 : RM), oc = .returned rv ∧ Z rv M1 ∧ XWh G ad M1 t.heap) args s mc ms (fun q => G.2.2.size ≤ q)
theorem MX.of {y : MethodName} {d mc ms : Nat} {vs : List Value} {lv : List (Nat × Value)} {Z : Option Value → RM → Prop} (hy : plainFor y = true) (hn : (lg_sl vs).length ≤ nL) (hlv : lv_args 0 vs = lv)
    (body : ∀ (p : Program) (e : Env) (s : State) (m : MethodId) (below : List Frame) (meth : Method) (c : Code) (ls : Array Slot) (hp0 : HP), CX p s m vs.toArray meth c cc nL y.cls ret G → XR G ad hp0 M s.heap [] → lv_has ls nL lv → W p l e (rmA d mc ms) s m vs.toArray below meth c s.heap [] 0 0 (QX below G ad vs.toArray s mc ms Z) (F0 m 0 ls [])) : MX l y (ws_ y cc nL ret) d mc ms G ad vs M Z := by
  refine Met.ofWF (cc := cc) (maxL := nL) (ret := ret) hy rfl ?_
  intro p e s m args below meth c s₁ B hml hv
  obtain ⟨rfl, hK, hM⟩ := hv
  have hts := atoms_spec (ws := ws_ y cc nL ret) B.pre
  have hl := lv_entry vs (n := nL) hn
  rw [lg_entry_eq]
  generalize (lg_sl vs ++ List.replicate (nL - (lg_sl vs).length) Slot.unset).toArray = ls at hl ⊢
  rw [hlv] at hl
  obtain ⟨hp0, hX⟩ := hM.xr (locs := []) (fun q h => by cases h)
  exact body p e s m below meth c ls hp0 ⟨⟨B.exec, B.bytes, hml, findClass_of_methodNamed B.named, fun w h => hts w (List.mem_cons_of_mem _ h)⟩, B.returns, B.notSynchronized, hK⟩ hX hl
theorem x_zret {tv : FieldType} {x : Int} {mc ms : Nat} {Z : Option Value → RM → Prop} (X : CX p s m args meth c cc nL own (some tv) G) (hX : XR G ad hp0 M H locs) (hZ : Z (some (vI x)) M) (hn : narrow tv (vI x) = vI x) (h1 : cells ≤ mc) (h2 : slots ≤ ms) (hdg : decode cc pc = .ok (.ireturn, 1)) : W p l e R s m args below meth c H locs cells slots (QX below G ad args s mc ms Z) (F0 m pc ls [vI x]) :=
  W.widen h1 h2 (W.zret X.hx X.hb X.2.1 hn (fun t ht _ => ⟨_, M, rfl, hZ, by rw [ht]; exact hX.wh⟩) hX.1.2 hdg X.2.2.1)
theorem x_lret {x : Int} {mc ms : Nat} {Z : Option Value → RM → Prop} (X : CX p s m args meth c cc nL own (some .long) G) (hX : XR G ad hp0 M H locs) (hZ : Z (some (vL x)) M) (h1 : cells ≤ mc) (h2 : slots ≤ ms) (hdg : decode cc pc = .ok (.lreturn, 1)) : W p l e R s m args below meth c H locs cells slots (QX below G ad args s mc ms Z) (F0 m pc ls [vL x]) :=
  W.widen h1 h2 (W.lret X.hx X.hb X.2.1 (fun t ht _ => ⟨_, M, rfl, hZ, by rw [ht]; exact hX.wh⟩) hX.1.2 hdg X.2.2.1)
theorem x_vret {mc ms : Nat} {Z : Option Value → RM → Prop} (X : CX p s m args meth c cc nL own none G) (hX : XR G ad hp0 M H locs) (hZ : Z none M) (h1 : cells ≤ mc) (h2 : slots ≤ ms) (hdg : decode cc pc = .ok (.return_, 1)) : W p l e R s m args below meth c H locs cells slots (QX below G ad args s mc ms Z) (F0 m pc ls []) :=
  W.widen h1 h2 (W.vret X.hx X.hb X.2.1 (fun t ht _ => ⟨_, M, rfl, hZ, by rw [ht]; exact hX.wh⟩) hX.1.2 hdg X.2.2.1)
theorem x_rret {tv : FieldType} {o : Nat} {mc ms : Nat} {Z : Option Value → RM → Prop} (X : CX p s m args meth c cc nL own (some tv) G) (hX : XR G ad hp0 M H locs) (hrt : (∃ n, tv = .object n) ∨ ∃ t, tv = .array t) (hZ : Z (some (.ref (ad o))) M) (h1 : cells ≤ mc) (h2 : slots ≤ ms) (hdg : decode cc pc = .ok (.areturn, 1)) : W p l e R s m args below meth c H locs cells slots (QX below G ad args s mc ms Z) (F0 m pc ls [.ref (ad o)]) :=
  W.widen h1 h2 (W.aret X.hx X.hb X.2.1 hrt (Or.inr ⟨_, rfl⟩) (fun t ht _ => ⟨_, M, rfl, hZ, by rw [ht]; exact hX.wh⟩) hX.1.2 hdg X.2.2.1)
theorem x_blind {As : List Value} : FrameBlind (va_Pc As (fun U => KG G U ∧ XWh G ad M U.heap)) := fun a U g mk q => ⟨q.1, KG.same (u := U) (U := U.calling g mk a) rfl q.2.1, q.2.2⟩
theorem x_run {mc ms : Nat} {rv : Option Value} {M' : RM} {st0 : List Value} (hr : va_Run p l e R s m args below meth c H locs cells slots mc ms (F0 m pc ls st0) rest (fun _ oc t => ∃ (r : Option Value) (M1 : RM), oc = .returned r ∧ Zd rv M' r M1 ∧ XWh G ad M1 t.heap) (fun q => G.2.2.size ≤ q)) (hL : LO G locs)
    (kk : ∀ (hp1 : HP) (H1 : Heap) (locs1 : List Loc), XR G ad hp1 M' H1 locs1 → W p l e R s m args below meth c H1 locs1 (cells + mc) (slots + ms) Q (F0 m (pc + 3) ls (rv.toList ++ rest))) : W p l e R s m args below meth c H locs cells slots Q (F0 m pc ls st0) := by
  intro T hT X
  obtain ⟨v, st₀, t, T', L, h0, X', hL', e1, e2, ⟨r, M1, hv, ⟨rfl, rfl⟩, hw⟩, st⟩ := hr T hT X
  cases hv
  obtain ⟨hp1, hX⟩ := hw.xr (locs := locs ++ L) (fun q hq => (List.mem_append.mp hq).elim (hL q) (hL' q))
  obtain ⟨t2, a1, b1⟩ := kk hp1 T'.heap (locs ++ L) (by rw [e1]; exact hX) T' rfl X'
  exact ⟨t2, st t2 a1, b1⟩
theorem x_runs {rv : Option Value} {M1 : RM} {st0 : List Value} {D1 : rw_D} {hp : HP} (hs : subD D1 dX) (h40 : D1 40 = none) (hP : RP G dX ad M hp) (hF : Fr dX ad hp0 hp) (hY : DY G ad (vw M) hp0) (hr : va_Run p l e R s m args below meth c H locs cells slots 0 0 (F0 m pc ls st0) rest (fun _ oc t => oc = .returned rv ∧ RWh G D1 ad hp M1 t.heap) (fun q => G.2.2.size ≤ q)) (hL : LO G locs)
    (kk : ∀ (H1 : Heap) (locs1 : List Loc), XR G ad hp0 (mg D1 M1 M) H1 locs1 → W p l e R s m args below meth c H1 locs1 cells slots Q (F0 m (pc + 3) ls (rv.toList ++ rest))) : W p l e R s m args below meth c H locs cells slots Q (F0 m pc ls st0) := by
  intro T hT X
  obtain ⟨v, st₀, t, T', L, h0, X', hL', e1, e2, ⟨hv, hp1, hW1, hP1, hF1⟩, st⟩ := hr T hT X
  cases hv
  obtain ⟨t2, a1, b1⟩ := kk T'.heap (locs ++ L) (XR.sub hs h40 hP hF hY (by rw [e1]; exact hW1) hP1 hF1 (fun q hq => (List.mem_append.mp hq).elim (hL q) (hL' q))) T' rfl X'
  exact ⟨t2, st t2 a1, b1⟩
theorem x_callV1 {dd d1 n maxL mc ms mcR msR : Nat} {y : MethodName} {bytes : ByteArray} {ry : Option FieldType} {As st0 : List Value} {v : Value} {M1 : RM} (X : CX p s m args meth c cc nL own ret G) (hX : XR G ad hp0 M H locs) (o : Nat) {fds : List (Nat × Nat)} (hd : dX o = some (.inr (ci, fds))) (ck : CK ci C T N ty) (hMet : MX l y (ws_ y bytes maxL ry) d1 mc ms G ad (.ref (ad o) :: As) M (Zd (some v) M1)) (cw : CallW (rmA dd mcR msR) s args own C index y bytes maxL ry (ws_ y bytes maxL ry) (rmA d1 mc ms) mc ms n) (hn : As.length = n) (hl : ls.size = nL) (hst : st0 = As.reverse ++ .ref (ad o) :: rest) (hroom : (rest.map fun v => v.category).sum ≤ 8) (hdg : decode cc pc = .ok (.invokevirtual index, 3)) (hcs : cells + mc ≤ mcR ∧ slots + ms ≤ msR) (c1 s1 : Nat) (e1 : cells + mc = c1) (e2 : slots + ms = s1) (kk : ∀ (hp1 : HP) (H1 : Heap) (locs1 : List Loc), XR G ad hp1 M1 H1 locs1 → W p l e (rmA dd mcR msR) s m args below meth c H1 locs1 c1 s1 Q (F0 m (pc + 3) ls (v :: rest))) : W p l e (rmA dd mcR msR) s m args below meth c H locs cells slots Q (F0 m pc ls st0) := by
  subst e1; subst e2
  obtain ⟨hp, hW, he⟩ := hX.1.cell hd
  exact x_run (va_runV X.1 hMet cw ⟨x_blind, va_recv X.hK.1 (hW.one he) (ci := ci) (q0 := 0) ck.1 rfl, fun U hU hWm => ⟨rfl, X.hK.warm hWm, by rw [hU]; exact hX.wh⟩⟩ rfl hn hl hst (lv_room hroom) hdg hcs) hX.1.2 kk
theorem x_subV1 {dd d1 n maxL mcR msR : Nat} {y : MethodName} {bytes : ByteArray} {ry : Option FieldType} {As st0 : List Value} {v : Value} {M1 : RM} {D1 : rw_D} (X : CX p s m args meth c cc nL own ret G) (hX : XR G ad hp0 M H locs) (hs : subD D1 dX) (h40 : D1 40 = none) (o : Nat) {fds : List (Nat × Nat)} (hd : dX o = some (.inr (ci, fds))) (ck : CK ci C T N ty) (hMet : ∀ hp : HP, MR l y (ws_ y bytes maxL ry) d1 G D1 ad hp (.ref (ad o) :: As) M (some v) M1) (cw : CallW (rmA dd mcR msR) s args own C index y bytes maxL ry (ws_ y bytes maxL ry) (rmD d1) 0 0 n) (hn : As.length = n) (hl : ls.size = nL) (hst : st0 = As.reverse ++ .ref (ad o) :: rest) (hroom : (rest.map fun v => v.category).sum ≤ 8) (hdg : decode cc pc = .ok (.invokevirtual index, 3)) (hcs : cells ≤ mcR ∧ slots ≤ msR) (kk : ∀ (H1 : Heap) (locs1 : List Loc), XR G ad hp0 (mg D1 M1 M) H1 locs1 → W p l e (rmA dd mcR msR) s m args below meth c H1 locs1 cells slots Q (F0 m (pc + 3) ls (v :: rest))) : W p l e (rmA dd mcR msR) s m args below meth c H locs cells slots Q (F0 m pc ls st0) := by
  obtain ⟨⟨⟨hp, hW, hP, hF⟩, hL⟩, hY⟩ := hX
  have he := hP.1 o _ hd
  exact x_runs hs h40 hP hF hY (va_runV X.1 (hMet hp) cw ⟨pc_blind, va_recv X.hK.1 (hW.one he) (ci := ci) (q0 := 0) ck.1 rfl, fun U hU hWm => ⟨rfl, X.hK.warm hWm, by rw [hU]; exact ⟨hp, hW, hP.sub hs, fun _ _ => rfl⟩⟩⟩ rfl hn hl hst (lv_room hroom) hdg hcs) hL kk
theorem x_subV1r {dd d1 n maxL mcR msR : Nat} {y : MethodName} {bytes : ByteArray} {ry : Option FieldType} {As st0 : List Value} {v : Value} {D1 : rw_D} (X : CX p s m args meth c cc nL own ret G) (hX : XR G ad hp0 M H locs) (hs : subD D1 dX) (h40 : D1 40 = none) (o : Nat) {fds : List (Nat × Nat)} (hd : dX o = some (.inr (ci, fds))) (ck : CK ci C T N ty) (hMet : ∀ hp : HP, MR l y (ws_ y bytes maxL ry) d1 G D1 ad hp (.ref (ad o) :: As) M (some v) M) (cw : CallW (rmA dd mcR msR) s args own C index y bytes maxL ry (ws_ y bytes maxL ry) (rmD d1) 0 0 n) (hn : As.length = n) (hl : ls.size = nL) (hst : st0 = As.reverse ++ .ref (ad o) :: rest) (hroom : (rest.map fun v => v.category).sum ≤ 8) (hdg : decode cc pc = .ok (.invokevirtual index, 3)) (hcs : cells ≤ mcR ∧ slots ≤ msR) (kk : ∀ (H1 : Heap) (locs1 : List Loc), XR G ad hp0 M H1 locs1 → W p l e (rmA dd mcR msR) s m args below meth c H1 locs1 cells slots Q (F0 m (pc + 3) ls (v :: rest))) : W p l e (rmA dd mcR msR) s m args below meth c H locs cells slots Q (F0 m pc ls st0) :=
  x_subV1 X hX hs h40 o hd ck hMet cw hn hl hst hroom hdg hcs (fun H1 locs1 h => kk H1 locs1 (by rw [mg_self] at h; exact h))
theorem x_callS1 {dd d1 n maxL mc ms mcR msR : Nat} {y : MethodName} {bytes : ByteArray} {ry : Option FieldType} {As st0 : List Value} {v : Value} {M1 : RM} (X : CX p s m args meth c cc nL own ret G) (hX : XR G ad hp0 M H locs) (hMet : MX l y (ws_ y bytes maxL ry) d1 mc ms G ad (As) M (Zd (some v) M1)) (cw : CallB (rmA dd mcR msR) s args own index y bytes maxL ry (ws_ y bytes maxL ry) (rmA d1 mc ms) mc ms n ∧ (Cond.static y).before args s = true) (hn : As.length = n) (hl : ls.size = nL) (hst : st0 = As.reverse ++ rest) (hroom : (rest.map fun v => v.category).sum ≤ 8) (hdg : decode cc pc = .ok (.invokestatic index, 3)) (hcs : cells + mc ≤ mcR ∧ slots + ms ≤ msR) (c1 s1 : Nat) (e1 : cells + mc = c1) (e2 : slots + ms = s1) (kk : ∀ (hp1 : HP) (H1 : Heap) (locs1 : List Loc), XR G ad hp1 M1 H1 locs1 → W p l e (rmA dd mcR msR) s m args below meth c H1 locs1 c1 s1 Q (F0 m (pc + 3) ls (v :: rest))) : W p l e (rmA dd mcR msR) s m args below meth c H locs cells slots Q (F0 m pc ls st0) := by
  subst e1; subst e2
  exact x_run (va_runS X.1 hMet cw ⟨x_blind, fun U hU hWm => ⟨rfl, X.hK.warm hWm, by rw [hU]; exact hX.wh⟩⟩ rfl hn hl hst (lv_room hroom) hdg hcs) hX.1.2 kk
theorem x_subS1 {dd d1 n maxL mcR msR : Nat} {y : MethodName} {bytes : ByteArray} {ry : Option FieldType} {As st0 : List Value} {v : Value} {M1 : RM} {D1 : rw_D} (X : CX p s m args meth c cc nL own ret G) (hX : XR G ad hp0 M H locs) (hs : subD D1 dX) (h40 : D1 40 = none) (hMet : ∀ hp : HP, MR l y (ws_ y bytes maxL ry) d1 G D1 ad hp (As) M (some v) M1) (cw : CallB (rmA dd mcR msR) s args own index y bytes maxL ry (ws_ y bytes maxL ry) (rmD d1) 0 0 n ∧ (Cond.static y).before args s = true) (hn : As.length = n) (hl : ls.size = nL) (hst : st0 = As.reverse ++ rest) (hroom : (rest.map fun v => v.category).sum ≤ 8) (hdg : decode cc pc = .ok (.invokestatic index, 3)) (hcs : cells ≤ mcR ∧ slots ≤ msR) (kk : ∀ (H1 : Heap) (locs1 : List Loc), XR G ad hp0 (mg D1 M1 M) H1 locs1 → W p l e (rmA dd mcR msR) s m args below meth c H1 locs1 cells slots Q (F0 m (pc + 3) ls (v :: rest))) : W p l e (rmA dd mcR msR) s m args below meth c H locs cells slots Q (F0 m pc ls st0) := by
  obtain ⟨⟨⟨hp, hW, hP, hF⟩, hL⟩, hY⟩ := hX
  exact x_runs hs h40 hP hF hY (va_runS X.1 (hMet hp) cw ⟨pc_blind, fun U hU hWm => ⟨rfl, X.hK.warm hWm, by rw [hU]; exact ⟨hp, hW, hP.sub hs, fun _ _ => rfl⟩⟩⟩ rfl hn hl hst (lv_room hroom) hdg hcs) hL kk
theorem x_subS1r {dd d1 n maxL mcR msR : Nat} {y : MethodName} {bytes : ByteArray} {ry : Option FieldType} {As st0 : List Value} {v : Value} {D1 : rw_D} (X : CX p s m args meth c cc nL own ret G) (hX : XR G ad hp0 M H locs) (hs : subD D1 dX) (h40 : D1 40 = none) (hMet : ∀ hp : HP, MR l y (ws_ y bytes maxL ry) d1 G D1 ad hp (As) M (some v) M) (cw : CallB (rmA dd mcR msR) s args own index y bytes maxL ry (ws_ y bytes maxL ry) (rmD d1) 0 0 n ∧ (Cond.static y).before args s = true) (hn : As.length = n) (hl : ls.size = nL) (hst : st0 = As.reverse ++ rest) (hroom : (rest.map fun v => v.category).sum ≤ 8) (hdg : decode cc pc = .ok (.invokestatic index, 3)) (hcs : cells ≤ mcR ∧ slots ≤ msR) (kk : ∀ (H1 : Heap) (locs1 : List Loc), XR G ad hp0 M H1 locs1 → W p l e (rmA dd mcR msR) s m args below meth c H1 locs1 cells slots Q (F0 m (pc + 3) ls (v :: rest))) : W p l e (rmA dd mcR msR) s m args below meth c H locs cells slots Q (F0 m pc ls st0) :=
  x_subS1 X hX hs h40 hMet cw hn hl hst hroom hdg hcs (fun H1 locs1 h => kk H1 locs1 (by rw [mg_self] at h; exact h))
theorem x_callV0 {dd d1 n maxL mc ms mcR msR : Nat} {y : MethodName} {bytes : ByteArray} {ry : Option FieldType} {As st0 : List Value} {M1 : RM} (X : CX p s m args meth c cc nL own ret G) (hX : XR G ad hp0 M H locs) (o : Nat) {fds : List (Nat × Nat)} (hd : dX o = some (.inr (ci, fds))) (ck : CK ci C T N ty) (hMet : MX l y (ws_ y bytes maxL ry) d1 mc ms G ad (.ref (ad o) :: As) M (Zd none M1)) (cw : CallW (rmA dd mcR msR) s args own C index y bytes maxL ry (ws_ y bytes maxL ry) (rmA d1 mc ms) mc ms n) (hn : As.length = n) (hl : ls.size = nL) (hst : st0 = As.reverse ++ .ref (ad o) :: rest) (hroom : (rest.map fun v => v.category).sum ≤ 8) (hdg : decode cc pc = .ok (.invokevirtual index, 3)) (hcs : cells + mc ≤ mcR ∧ slots + ms ≤ msR) (c1 s1 : Nat) (e1 : cells + mc = c1) (e2 : slots + ms = s1) (kk : ∀ (hp1 : HP) (H1 : Heap) (locs1 : List Loc), XR G ad hp1 M1 H1 locs1 → W p l e (rmA dd mcR msR) s m args below meth c H1 locs1 c1 s1 Q (F0 m (pc + 3) ls rest)) : W p l e (rmA dd mcR msR) s m args below meth c H locs cells slots Q (F0 m pc ls st0) := by
  subst e1; subst e2
  obtain ⟨hp, hW, he⟩ := hX.1.cell hd
  exact x_run (va_runV X.1 hMet cw ⟨x_blind, va_recv X.hK.1 (hW.one he) (ci := ci) (q0 := 0) ck.1 rfl, fun U hU hWm => ⟨rfl, X.hK.warm hWm, by rw [hU]; exact hX.wh⟩⟩ rfl hn hl hst (lv_room hroom) hdg hcs) hX.1.2 kk
theorem x_subV0 {dd d1 n maxL mcR msR : Nat} {y : MethodName} {bytes : ByteArray} {ry : Option FieldType} {As st0 : List Value} {M1 : RM} {D1 : rw_D} (X : CX p s m args meth c cc nL own ret G) (hX : XR G ad hp0 M H locs) (hs : subD D1 dX) (h40 : D1 40 = none) (o : Nat) {fds : List (Nat × Nat)} (hd : dX o = some (.inr (ci, fds))) (ck : CK ci C T N ty) (hMet : ∀ hp : HP, MR l y (ws_ y bytes maxL ry) d1 G D1 ad hp (.ref (ad o) :: As) M none M1) (cw : CallW (rmA dd mcR msR) s args own C index y bytes maxL ry (ws_ y bytes maxL ry) (rmD d1) 0 0 n) (hn : As.length = n) (hl : ls.size = nL) (hst : st0 = As.reverse ++ .ref (ad o) :: rest) (hroom : (rest.map fun v => v.category).sum ≤ 8) (hdg : decode cc pc = .ok (.invokevirtual index, 3)) (hcs : cells ≤ mcR ∧ slots ≤ msR) (kk : ∀ (H1 : Heap) (locs1 : List Loc), XR G ad hp0 (mg D1 M1 M) H1 locs1 → W p l e (rmA dd mcR msR) s m args below meth c H1 locs1 cells slots Q (F0 m (pc + 3) ls rest)) : W p l e (rmA dd mcR msR) s m args below meth c H locs cells slots Q (F0 m pc ls st0) := by
  obtain ⟨⟨⟨hp, hW, hP, hF⟩, hL⟩, hY⟩ := hX
  have he := hP.1 o _ hd
  exact x_runs hs h40 hP hF hY (va_runV X.1 (hMet hp) cw ⟨pc_blind, va_recv X.hK.1 (hW.one he) (ci := ci) (q0 := 0) ck.1 rfl, fun U hU hWm => ⟨rfl, X.hK.warm hWm, by rw [hU]; exact ⟨hp, hW, hP.sub hs, fun _ _ => rfl⟩⟩⟩ rfl hn hl hst (lv_room hroom) hdg hcs) hL kk
theorem x_subV0r {dd d1 n maxL mcR msR : Nat} {y : MethodName} {bytes : ByteArray} {ry : Option FieldType} {As st0 : List Value} {D1 : rw_D} (X : CX p s m args meth c cc nL own ret G) (hX : XR G ad hp0 M H locs) (hs : subD D1 dX) (h40 : D1 40 = none) (o : Nat) {fds : List (Nat × Nat)} (hd : dX o = some (.inr (ci, fds))) (ck : CK ci C T N ty) (hMet : ∀ hp : HP, MR l y (ws_ y bytes maxL ry) d1 G D1 ad hp (.ref (ad o) :: As) M none M) (cw : CallW (rmA dd mcR msR) s args own C index y bytes maxL ry (ws_ y bytes maxL ry) (rmD d1) 0 0 n) (hn : As.length = n) (hl : ls.size = nL) (hst : st0 = As.reverse ++ .ref (ad o) :: rest) (hroom : (rest.map fun v => v.category).sum ≤ 8) (hdg : decode cc pc = .ok (.invokevirtual index, 3)) (hcs : cells ≤ mcR ∧ slots ≤ msR) (kk : ∀ (H1 : Heap) (locs1 : List Loc), XR G ad hp0 M H1 locs1 → W p l e (rmA dd mcR msR) s m args below meth c H1 locs1 cells slots Q (F0 m (pc + 3) ls rest)) : W p l e (rmA dd mcR msR) s m args below meth c H locs cells slots Q (F0 m pc ls st0) :=
  x_subV0 X hX hs h40 o hd ck hMet cw hn hl hst hroom hdg hcs (fun H1 locs1 h => kk H1 locs1 (by rw [mg_self] at h; exact h))
theorem x_callS0 {dd d1 n maxL mc ms mcR msR : Nat} {y : MethodName} {bytes : ByteArray} {ry : Option FieldType} {As st0 : List Value} {M1 : RM} (X : CX p s m args meth c cc nL own ret G) (hX : XR G ad hp0 M H locs) (hMet : MX l y (ws_ y bytes maxL ry) d1 mc ms G ad (As) M (Zd none M1)) (cw : CallB (rmA dd mcR msR) s args own index y bytes maxL ry (ws_ y bytes maxL ry) (rmA d1 mc ms) mc ms n ∧ (Cond.static y).before args s = true) (hn : As.length = n) (hl : ls.size = nL) (hst : st0 = As.reverse ++ rest) (hroom : (rest.map fun v => v.category).sum ≤ 8) (hdg : decode cc pc = .ok (.invokestatic index, 3)) (hcs : cells + mc ≤ mcR ∧ slots + ms ≤ msR) (c1 s1 : Nat) (e1 : cells + mc = c1) (e2 : slots + ms = s1) (kk : ∀ (hp1 : HP) (H1 : Heap) (locs1 : List Loc), XR G ad hp1 M1 H1 locs1 → W p l e (rmA dd mcR msR) s m args below meth c H1 locs1 c1 s1 Q (F0 m (pc + 3) ls rest)) : W p l e (rmA dd mcR msR) s m args below meth c H locs cells slots Q (F0 m pc ls st0) := by
  subst e1; subst e2
  exact x_run (va_runS X.1 hMet cw ⟨x_blind, fun U hU hWm => ⟨rfl, X.hK.warm hWm, by rw [hU]; exact hX.wh⟩⟩ rfl hn hl hst (lv_room hroom) hdg hcs) hX.1.2 kk
theorem x_subS0 {dd d1 n maxL mcR msR : Nat} {y : MethodName} {bytes : ByteArray} {ry : Option FieldType} {As st0 : List Value} {M1 : RM} {D1 : rw_D} (X : CX p s m args meth c cc nL own ret G) (hX : XR G ad hp0 M H locs) (hs : subD D1 dX) (h40 : D1 40 = none) (hMet : ∀ hp : HP, MR l y (ws_ y bytes maxL ry) d1 G D1 ad hp (As) M none M1) (cw : CallB (rmA dd mcR msR) s args own index y bytes maxL ry (ws_ y bytes maxL ry) (rmD d1) 0 0 n ∧ (Cond.static y).before args s = true) (hn : As.length = n) (hl : ls.size = nL) (hst : st0 = As.reverse ++ rest) (hroom : (rest.map fun v => v.category).sum ≤ 8) (hdg : decode cc pc = .ok (.invokestatic index, 3)) (hcs : cells ≤ mcR ∧ slots ≤ msR) (kk : ∀ (H1 : Heap) (locs1 : List Loc), XR G ad hp0 (mg D1 M1 M) H1 locs1 → W p l e (rmA dd mcR msR) s m args below meth c H1 locs1 cells slots Q (F0 m (pc + 3) ls rest)) : W p l e (rmA dd mcR msR) s m args below meth c H locs cells slots Q (F0 m pc ls st0) := by
  obtain ⟨⟨⟨hp, hW, hP, hF⟩, hL⟩, hY⟩ := hX
  exact x_runs hs h40 hP hF hY (va_runS X.1 (hMet hp) cw ⟨pc_blind, fun U hU hWm => ⟨rfl, X.hK.warm hWm, by rw [hU]; exact ⟨hp, hW, hP.sub hs, fun _ _ => rfl⟩⟩⟩ rfl hn hl hst (lv_room hroom) hdg hcs) hL kk
theorem x_subS0r {dd d1 n maxL mcR msR : Nat} {y : MethodName} {bytes : ByteArray} {ry : Option FieldType} {As st0 : List Value} {D1 : rw_D} (X : CX p s m args meth c cc nL own ret G) (hX : XR G ad hp0 M H locs) (hs : subD D1 dX) (h40 : D1 40 = none) (hMet : ∀ hp : HP, MR l y (ws_ y bytes maxL ry) d1 G D1 ad hp (As) M none M) (cw : CallB (rmA dd mcR msR) s args own index y bytes maxL ry (ws_ y bytes maxL ry) (rmD d1) 0 0 n ∧ (Cond.static y).before args s = true) (hn : As.length = n) (hl : ls.size = nL) (hst : st0 = As.reverse ++ rest) (hroom : (rest.map fun v => v.category).sum ≤ 8) (hdg : decode cc pc = .ok (.invokestatic index, 3)) (hcs : cells ≤ mcR ∧ slots ≤ msR) (kk : ∀ (H1 : Heap) (locs1 : List Loc), XR G ad hp0 M H1 locs1 → W p l e (rmA dd mcR msR) s m args below meth c H1 locs1 cells slots Q (F0 m (pc + 3) ls rest)) : W p l e (rmA dd mcR msR) s m args below meth c H locs cells slots Q (F0 m pc ls st0) :=
  x_subS0 X hX hs h40 hMet cw hn hl hst hroom hdg hcs (fun H1 locs1 h => kk H1 locs1 (by rw [mg_self] at h; exact h))
end XRS
