/-! 06c HEAP ROWS: the abstract heap in continuation style -/
set_option maxRecDepth 100000
def WH (G : GG) (hp : HP) (H : Heap) (locs : List Loc) : Prop := WR G hp H ∧ LO G locs
def hI (hp : HP) (a ci k : Nat) (F : Int → Prop) : Prop := ∃ (fs : List Value) (x : Int), hp a = some (.inr (ci, fs)) ∧ fs[k]? = some (vI x) ∧ F x
def hJ (hp : HP) (a ci k : Nat) (F : Int → Prop) : Prop := ∃ (fs : List Value) (x : Int), hp a = some (.inr (ci, fs)) ∧ fs[k]? = some (vL x) ∧ F x
def hR (hp : HP) (a ci k : Nat) (F : Option Nat → Prop) : Prop := ∃ (fs : List Value) (r : Option Nat), hp a = some (.inr (ci, fs)) ∧ fs[k]? = some (va_rf r) ∧ F r
def hPut (hp : HP) (a ci k : Nat) (v : Value) (F : HP → Prop) : Prop := ∃ fs : List Value, hp a = some (.inr (ci, fs)) ∧ k < fs.length ∧ F (hup hp a (.inr (ci, fs.set k v)))
def hNew (hp : HP) (ci : Nat) (fs : List Value) (F : HP → Nat → Prop) : Prop := ∀ q : Nat, hp q = none → F (hup hp q (.inr (ci, fs))) q
def hNn (r : Option Nat) (F : Nat → Prop) : Prop := ∃ a : Nat, r = some a ∧ F a
def hZ (x : Int) (F : Prop) : Prop := (x = 0 ∨ x = 1) ∧ F
def hLen (G : GG) (hp : HP) (a t : Nat) (F : Int → Prop) : Prop := ∃ (n : Nat) (x : (Nat → Int32) ⊕ (Nat → Int64) ⊕ (Nat → UInt32) ⊕ (Nat → UInt64) ⊕ (Nat → Option Nat)), hp a = some (.inl (G.2.1 t, (n, x))) ∧ F n
def haI (G : GG) (hp : HP) (a t : Nat) (i : Int) (F : Int → Prop) : Prop := ∃ (n : Nat) (f : Nat → Int32), hp a = some (.inl (G.2.1 t, (n, .inl f))) ∧ n ≤ 100000000 ∧ (0 ≤ i ∧ i < n) ∧ F (f i.toNat).toInt
def haJ (G : GG) (hp : HP) (a t : Nat) (i : Int) (F : Int → Prop) : Prop := ∃ (n : Nat) (f : Nat → Int64), hp a = some (.inl (G.2.1 t, (n, .inr (.inl f)))) ∧ n ≤ 100000000 ∧ (0 ≤ i ∧ i < n) ∧ F (f i.toNat).toInt
def haR (G : GG) (hp : HP) (a t : Nat) (i : Int) (F : Option Nat → Prop) : Prop := ∃ (n : Nat) (f : Nat → Option Nat), hp a = some (.inl (G.2.1 t, (n, .inr (.inr (.inr (.inr f)))))) ∧ n ≤ 100000000 ∧ (0 ≤ i ∧ i < n) ∧ F (f i.toNat)
def hsI (G : GG) (hp : HP) (a t : Nat) (i x : Int) (F : HP → Prop) : Prop := ∃ (n : Nat) (f : Nat → Int32), hp a = some (.inl (G.2.1 t, (n, .inl f))) ∧ n ≤ 100000000 ∧ (0 ≤ i ∧ i < n) ∧ F (hup hp a (.inl (G.2.1 t, (n, .inl (upd f i.toNat (Int32.ofInt x))))))
def hsB (G : GG) (hp : HP) (a t : Nat) (i x : Int) (F : HP → Prop) : Prop := ∃ (n : Nat) (f : Nat → Int32), hp a = some (.inl (G.2.1 t, (n, .inl f))) ∧ n ≤ 100000000 ∧ (0 ≤ i ∧ i < n) ∧ F (hup hp a (.inl (G.2.1 t, (n, .inl (upd f i.toNat (vp_nar .byte (Int32.ofInt x)))))))
def hsJ (G : GG) (hp : HP) (a t : Nat) (i x : Int) (F : HP → Prop) : Prop := ∃ (n : Nat) (f : Nat → Int64), hp a = some (.inl (G.2.1 t, (n, .inr (.inl f)))) ∧ n ≤ 100000000 ∧ (0 ≤ i ∧ i < n) ∧ F (hup hp a (.inl (G.2.1 t, (n, .inr (.inl (vp_updL f i.toNat (Int64.ofInt x)))))))
/-- a reference is stored: null, or an object of class ci -/
def hsR (G : GG) (hp : HP) (a t : Nat) (i : Int) (ci : Nat) (r : Option Nat) (F : HP → Prop) : Prop := ∃ (n : Nat) (f : Nat → Option Nat), hp a = some (.inl (G.2.1 t, (n, .inr (.inr (.inr (.inr f)))))) ∧ n ≤ 100000000 ∧ (0 ≤ i ∧ i < n) ∧ (∀ b : Nat, r = some b → ∃ fs : List Value, hp b = some (.inr (ci, fs))) ∧ F (hup hp a (.inl (G.2.1 t, (n, .inr (.inr (.inr (.inr (va_up f i.toNat r))))))))
/-- a new array -/
def haN (G : GG) (hp : HP) (t : Nat) (n : Nat) (x : (Nat → Int32) ⊕ (Nat → Int64) ⊕ (Nat → UInt32) ⊕ (Nat → UInt64) ⊕ (Nat → Option Nat)) (F : HP → Nat → Prop) : Prop := ∀ q : Nat, hp q = none → F (hup hp q (.inl (G.2.1 t, (n, x)))) q
/-- a cast to a class: null, or an object of class ci -/
def hCast (hp : HP) (ci : Nat) (r : Option Nat) (F : Prop) : Prop := (∀ b : Nat, r = some b → ∃ fs : List Value, hp b = some (.inr (ci, fs))) ∧ F
/-- a is an object of class ci -/
def hIs (hp : HP) (a ci : Nat) (F : Prop) : Prop := (∃ fs : List Value, hp a = some (.inr (ci, fs))) ∧ F
def hIf (c A B : Prop) : Prop := (c → A) ∧ (¬ c → B)
def hJn {β : Type} (v : β) (F : β → Prop) : Prop := F v
theorem h_case {c A B Z : Prop} (hE : hIf c A B) (kt : c → A → Z) (kf : ¬ c → B → Z) : Z := by
  by_cases h : c
  · exact kt h (hE.1 h)
  · exact kf h (hE.2 h)
theorem h_jn {β : Type} {v : β} {F : β → Prop} (h : hJn v F) : ∃ k, k = v ∧ F k := ⟨v, rfl, h⟩
-- posts
def pV (q : HP → Prop) : Option Value → HP → Prop := fun rv hp => rv = none ∧ q hp
def pI (q : Int → HP → Prop) : Option Value → HP → Prop := fun rv hp => ∃ x, rv = some (vI x) ∧ q x hp
def pJ (q : Int → HP → Prop) : Option Value → HP → Prop := fun rv hp => ∃ x, rv = some (vL x) ∧ q x hp
def pR (q : Option Nat → HP → Prop) : Option Value → HP → Prop := fun rv hp => ∃ r, rv = some (va_rf r) ∧ q r hp
/-- a heap method's contract -/
def MH (l : Launch) (y : MethodName) (ws : List Cond) (d mc ms : Nat) (G : GG) (As : List Value) (hp : HP) (Z : Option Value → HP → Prop) : Prop :=
  Met l y ws (rmA d mc ms) (va_Pc As (fun U => KG G U ∧ WR G hp U.heap)) (fun _ _ oc t => ∃ (rv : Option Value) (hp1 : HP), oc = .returned rv ∧ Z rv hp1 ∧ WR G hp1 t.heap) mc ms (fun q => G.2.2.size ≤ q)
def QH (below : List Frame) (G : GG) (args : Array Value) (s : State) (mc ms : Nat) (Z : Option Value → HP → Prop) : State → Prop :=
  MQ below (fun _ _ oc t => ∃ (rv : Option Value) (hp1 : HP), oc = .returned rv ∧ Z rv hp1 ∧ WR G hp1 t.heap) args s mc ms (fun q => G.2.2.size ≤ q)
section HRS
variable {p : Program} {l : Launch} {e : Env} {R : Room} {s : State} {m : MethodId} {args : Array Value} {below : List Frame} {meth : Method} {c : Code} {H : Heap} {locs : List Loc} {cells slots : Nat} {Q : State → Prop} {cc : ByteArray} {nL : Nat} {own : String} {ret : Option FieldType} {G : GG} {pc : Nat} {ls : Array Slot} {rest : List Value} {C : String} {T : u_T} {N ci : Nat} {ty : Nat → FieldType} {index : Nat} {ref : String} {hp : HP} {a k : Nat}
theorem h_getI (X : CX p s m args meth c cc nL own ret G) (hW : WH G hp H locs) (ck : CK ci C T N ty) {F : Int → Prop} (hE : hI hp a ci k F) (hk : k < N) (hq : Cond.fieldLink own index ref (T k).2.1 (T k).2.2.1 ∈ lw_all) (hs : ∀ x, s.fieldFound? (T k).1 (T k).2.1 (T k).2.2.1 = some x → s.fieldFound? ref (T k).2.1 (T k).2.2.1 = some x) (hdg : decode cc pc = .ok (.getfield index, 3)) (kk : ∀ x, F x → W p l e R s m args below meth c H locs cells slots Q (F0 m (pc + 3) ls (vI x :: rest))) : W p l e R s m args below meth c H locs cells slots Q (F0 m pc ls (.ref a :: rest)) := by
  obtain ⟨fs, x, he, hv, hF⟩ := hE
  exact va_get X.hx X.hb X.ht ck.2.1 X.ho X.hK.1 (hW.1.one he) 0 rfl ck.1 k hk (X.ht _ hq) hs hv hdg (kk x hF)
theorem h_getNI (X : CX p s m args meth c cc nL own ret G) (hW : WH G hp H locs) (ck : CK ci C T N ty) {F : Int → Prop} (hE : hI hp a ci k F) (hk : k < N) {host : String} (hq : Cond.fieldLinkNest own index ref (T k).2.1 (T k).2.2.1 host ∈ lw_tbl) (hs : ∀ x, s.fieldFound? (T k).1 (T k).2.1 (T k).2.2.1 = some x → s.fieldFound? ref (T k).2.1 (T k).2.2.1 = some x) (hdg : decode cc pc = .ok (.getfield index, 3)) (kk : ∀ x, F x → W p l e R s m args below meth c H locs cells slots Q (F0 m (pc + 3) ls (vI x :: rest))) : W p l e R s m args below meth c H locs cells slots Q (F0 m pc ls (.ref a :: rest)) := by
  obtain ⟨fs, x, he, hv, hF⟩ := hE
  exact va_getN X.hx X.hb X.ht ck.2.1 X.ho X.hK.1 (hW.1.one he) 0 rfl ck.1 k hk (va_Nw.use rfl (X.hN hq rfl)) hs hv hdg (kk x hF)
theorem h_getJ (X : CX p s m args meth c cc nL own ret G) (hW : WH G hp H locs) (ck : CK ci C T N ty) {F : Int → Prop} (hE : hJ hp a ci k F) (hk : k < N) (hq : Cond.fieldLink own index ref (T k).2.1 (T k).2.2.1 ∈ lw_all) (hs : ∀ x, s.fieldFound? (T k).1 (T k).2.1 (T k).2.2.1 = some x → s.fieldFound? ref (T k).2.1 (T k).2.2.1 = some x) (hdg : decode cc pc = .ok (.getfield index, 3)) (kk : ∀ x, F x → W p l e R s m args below meth c H locs cells slots Q (F0 m (pc + 3) ls (vL x :: rest))) : W p l e R s m args below meth c H locs cells slots Q (F0 m pc ls (.ref a :: rest)) := by
  obtain ⟨fs, x, he, hv, hF⟩ := hE
  exact va_get X.hx X.hb X.ht ck.2.1 X.ho X.hK.1 (hW.1.one he) 0 rfl ck.1 k hk (X.ht _ hq) hs hv hdg (kk x hF)
theorem h_getNJ (X : CX p s m args meth c cc nL own ret G) (hW : WH G hp H locs) (ck : CK ci C T N ty) {F : Int → Prop} (hE : hJ hp a ci k F) (hk : k < N) {host : String} (hq : Cond.fieldLinkNest own index ref (T k).2.1 (T k).2.2.1 host ∈ lw_tbl) (hs : ∀ x, s.fieldFound? (T k).1 (T k).2.1 (T k).2.2.1 = some x → s.fieldFound? ref (T k).2.1 (T k).2.2.1 = some x) (hdg : decode cc pc = .ok (.getfield index, 3)) (kk : ∀ x, F x → W p l e R s m args below meth c H locs cells slots Q (F0 m (pc + 3) ls (vL x :: rest))) : W p l e R s m args below meth c H locs cells slots Q (F0 m pc ls (.ref a :: rest)) := by
  obtain ⟨fs, x, he, hv, hF⟩ := hE
  exact va_getN X.hx X.hb X.ht ck.2.1 X.ho X.hK.1 (hW.1.one he) 0 rfl ck.1 k hk (va_Nw.use rfl (X.hN hq rfl)) hs hv hdg (kk x hF)
theorem h_getR (X : CX p s m args meth c cc nL own ret G) (hW : WH G hp H locs) (ck : CK ci C T N ty) {F : Option Nat → Prop} (hE : hR hp a ci k F) (hk : k < N) (hq : Cond.fieldLink own index ref (T k).2.1 (T k).2.2.1 ∈ lw_all) (hs : ∀ x, s.fieldFound? (T k).1 (T k).2.1 (T k).2.2.1 = some x → s.fieldFound? ref (T k).2.1 (T k).2.2.1 = some x) (hdg : decode cc pc = .ok (.getfield index, 3)) (kk : ∀ x, F x → W p l e R s m args below meth c H locs cells slots Q (F0 m (pc + 3) ls (va_rf x :: rest))) : W p l e R s m args below meth c H locs cells slots Q (F0 m pc ls (.ref a :: rest)) := by
  obtain ⟨fs, x, he, hv, hF⟩ := hE
  exact va_get X.hx X.hb X.ht ck.2.1 X.ho X.hK.1 (hW.1.one he) 0 rfl ck.1 k hk (X.ht _ hq) hs hv hdg (kk x hF)
theorem h_getNR (X : CX p s m args meth c cc nL own ret G) (hW : WH G hp H locs) (ck : CK ci C T N ty) {F : Option Nat → Prop} (hE : hR hp a ci k F) (hk : k < N) {host : String} (hq : Cond.fieldLinkNest own index ref (T k).2.1 (T k).2.2.1 host ∈ lw_tbl) (hs : ∀ x, s.fieldFound? (T k).1 (T k).2.1 (T k).2.2.1 = some x → s.fieldFound? ref (T k).2.1 (T k).2.2.1 = some x) (hdg : decode cc pc = .ok (.getfield index, 3)) (kk : ∀ x, F x → W p l e R s m args below meth c H locs cells slots Q (F0 m (pc + 3) ls (va_rf x :: rest))) : W p l e R s m args below meth c H locs cells slots Q (F0 m pc ls (.ref a :: rest)) := by
  obtain ⟨fs, x, he, hv, hF⟩ := hE
  exact va_getN X.hx X.hb X.ht ck.2.1 X.ho X.hK.1 (hW.1.one he) 0 rfl ck.1 k hk (va_Nw.use rfl (X.hN hq rfl)) hs hv hdg (kk x hF)
theorem fit_R {C : String} (r : Option Nat) : narrow (.object C) (va_rf r) = va_rf r ∧ fits (.object C) (va_rf r) = true := by cases r <;> exact ⟨rfl, rfl⟩
theorem fit_A {t : FieldType} (r : Option Nat) : narrow (.array t) (va_rf r) = va_rf r ∧ fits (.array t) (va_rf r) = true := by cases r <;> exact ⟨rfl, rfl⟩
theorem fit_I (x : Int) : narrow .int (vI x) = vI x ∧ fits .int (vI x) = true := ⟨rfl, rfl⟩
theorem fit_J (x : Int) : narrow .long (vL x) = vL x ∧ fits .long (vL x) = true := ⟨rfl, rfl⟩
theorem fit_Z {x : Int} (h : x = 0 ∨ x = 1) : narrow .boolean (vI x) = vI x ∧ fits .boolean (vI x) = true := by rcases h with h | h <;> subst h <;> decide
theorem h_put (X : CX p s m args meth c cc nL own ret G) (hW : WH G hp H locs) (ck : CK ci C T N ty) {v : Value} {F : HP → Prop} (hE : hPut hp a ci k v F) (hk : k < N) (hq : Cond.fieldLink own index ref (T k).2.1 (T k).2.2.1 ∈ lw_all) (hs : ∀ x, s.fieldFound? (T k).1 (T k).2.1 (T k).2.2.1 = some x → s.fieldFound? ref (T k).2.1 (T k).2.2.1 = some x) (hfin : (T k).2.2.2 = false) {tv : FieldType} (ht : ty k = tv) (hfit : narrow tv v = v ∧ fits tv v = true) (hdg : decode cc pc = .ok (.putfield index, 3)) (kk : ∀ hp1 : HP, F hp1 → ∀ (H1 : Heap) (locs1 : List Loc), WH G hp1 H1 locs1 → W p l e R s m args below meth c H1 locs1 cells slots Q (F0 m (pc + 3) ls rest)) : W p l e R s m args below meth c H locs cells slots Q (F0 m pc ls (v :: .ref a :: rest)) := by
  obtain ⟨fs, he, hl, hF⟩ := hE
  obtain ⟨q0, h0⟩ := lst_at he (hW.1.lt he)
  refine va_put X.hx X.hb X.ht ck.2.1 ty ck.2.2.1 ck.2.2.2 X.ho X.hK.1 hW.1.P hW.1.D (hW.1.S hW.2) q0 h0 ck.1 k hk (X.ht _ hq) hs hfin ((ck.2.2.1 k hk).trans (congrArg some ht)) hfit.1 hfit.2 hl hdg (fun H1 locs1 hP _ hS => ?_)
  exact kk _ hF H1 locs1 (hW.1.set h0 hP hS)
theorem h_putN (X : CX p s m args meth c cc nL own ret G) (hW : WH G hp H locs) (ck : CK ci C T N ty) {v : Value} {F : HP → Prop} (hE : hPut hp a ci k v F) (hk : k < N) {host : String} (hq : Cond.fieldLinkNest own index ref (T k).2.1 (T k).2.2.1 host ∈ lw_tbl) (hs : ∀ x, s.fieldFound? (T k).1 (T k).2.1 (T k).2.2.1 = some x → s.fieldFound? ref (T k).2.1 (T k).2.2.1 = some x) (hfin : (T k).2.2.2 = false) {tv : FieldType} (ht : ty k = tv) (hfit : narrow tv v = v ∧ fits tv v = true) (hdg : decode cc pc = .ok (.putfield index, 3)) (kk : ∀ hp1 : HP, F hp1 → ∀ (H1 : Heap) (locs1 : List Loc), WH G hp1 H1 locs1 → W p l e R s m args below meth c H1 locs1 cells slots Q (F0 m (pc + 3) ls rest)) : W p l e R s m args below meth c H locs cells slots Q (F0 m pc ls (v :: .ref a :: rest)) := by
  obtain ⟨fs, he, hl, hF⟩ := hE
  obtain ⟨q0, h0⟩ := lst_at he (hW.1.lt he)
  refine va_putN X.hx X.hb X.ht ck.2.1 ty ck.2.2.1 ck.2.2.2 X.ho X.hK.1 hW.1.P hW.1.D (hW.1.S hW.2) q0 h0 ck.1 k hk (va_Nw.use rfl (X.hN hq rfl)) hs hfin ((ck.2.2.1 k hk).trans (congrArg some ht)) hfit.1 hfit.2 hl hdg (fun H1 locs1 hP _ hS => ?_)
  exact kk _ hF H1 locs1 (hW.1.set h0 hP hS)
theorem h_putF (X : CX p s m args meth c cc nL own ret G) (hW : WH G hp H locs) (ck : CK ci C T N ty) {v : Value} {F : HP → Prop} (hE : hPut hp a ci k v F) (hk : k < N) (hq : Cond.fieldLink own index ref (T k).2.1 (T k).2.2.1 ∈ lw_all) (hs : ∀ x, s.fieldFound? (T k).1 (T k).2.1 (T k).2.2.1 = some x → s.fieldFound? ref (T k).2.1 (T k).2.2.1 = some x) (hfin : (T k).2.2.2 = true) (hin2 : meth.name = "<init>") (hdecl : (T k).1 = own) {tv : FieldType} (ht : ty k = tv) (hfit : narrow tv v = v ∧ fits tv v = true) (hdg : decode cc pc = .ok (.putfield index, 3)) (kk : ∀ hp1 : HP, F hp1 → ∀ (H1 : Heap) (locs1 : List Loc), WH G hp1 H1 locs1 → W p l e R s m args below meth c H1 locs1 cells slots Q (F0 m (pc + 3) ls rest)) : W p l e R s m args below meth c H locs cells slots Q (F0 m pc ls (v :: .ref a :: rest)) := by
  obtain ⟨fs, he, hl, hF⟩ := hE
  obtain ⟨q0, h0⟩ := lst_at he (hW.1.lt he)
  refine va_putF X.hx X.hb X.ht ck.2.1 ty ck.2.2.1 ck.2.2.2 X.ho X.hK.1 hW.1.P hW.1.D (hW.1.S hW.2) q0 h0 ck.1 k hk (X.ht _ hq) hs hfin hin2 hdecl ((ck.2.2.1 k hk).trans (congrArg some ht)) hfit.1 hfit.2 hl hdg (fun H1 locs1 hP _ hS => ?_)
  exact kk _ hF H1 locs1 (hW.1.set h0 hP hS)
theorem h_new (X : CX p s m args meth c cc nL own ret G) (hW : WH G hp H locs) (ck : CK ci C T N ty) {fs : List Value} {F : HP → Nat → Prop} (hE : hNew hp ci fs F) (hq1 : Cond.classLink own index C ∈ lw_all) (hq2 : Cond.instantiable C N ∈ lw_all) (hq3 : Cond.initialized C ∈ lw_all) (hfs : ∀ j, j < N → defaultValue (ty j) = vp_V fs j) (hc : cells + 1 ≤ R.cells) (hs : slots + N ≤ R.slots) (c1 s1 : Nat) (e1 : cells + 1 = c1) (e2 : slots + N = s1) (hdg : decode cc pc = .ok (.new index, 3)) (kk : ∀ (hp1 : HP) (q : Nat), F hp1 q → ∀ (H1 : Heap) (locs1 : List Loc), WH G hp1 H1 locs1 → W p l e R s m args below meth c H1 locs1 c1 s1 Q (F0 m (pc + 3) ls (.ref q :: rest))) : W p l e R s m args below meth c H locs cells slots Q (F0 m pc ls rest) := by
  subst e1; subst e2
  refine va_new X.hx X.hb X.ht ck.2.1 ty ck.2.2.1 X.ho (X.ht _ hq1) (X.ht _ hq2) (X.ht _ hq3) X.hK.1 hW.1.P hW.1.D (hW.1.S hW.2) (fun _ h => h) ck.1 hfs hc hs hdg (fun q H1 hP hD hS => ?_)
  obtain ⟨hn, hw⟩ := hW.1.push hP hD hS
  exact kk _ q (hE q hn) H1 _ hw
theorem h_iald (X : CX p s m args meth c cc nL own ret G) (hW : WH G hp H locs) {i : Int} {F : Int → Prop} (hE : haI G hp a 0 i F) (hdg : decode cc pc = .ok (.iaload, 1)) (kk : ∀ x, F x → W p l e R s m args below meth c H locs cells slots Q (F0 m (pc + 1) ls (vI x :: rest))) : W p l e R s m args below meth c H locs cells slots Q (F0 m pc ls (vI i :: .ref a :: rest)) := by
  obtain ⟨n, f, he, hn, hi, hF⟩ := hE
  obtain ⟨i1, i2⟩ := i32_in hi hn
  refine va_iald X.hx X.hb X.hK.1 (hW.1.one he) 0 0 rfl rfl i1 hdg ?_
  rw [i2]
  have hk := kk _ hF
  unfold vI at hk
  rw [Int32.ofInt_toInt] at hk
  exact hk
theorem h_bald (X : CX p s m args meth c cc nL own ret G) (hW : WH G hp H locs) {i : Int} {F : Int → Prop} (hE : haI G hp a 3 i F) (hdg : decode cc pc = .ok (.baload, 1)) (kk : ∀ x, F x → W p l e R s m args below meth c H locs cells slots Q (F0 m (pc + 1) ls (vI x :: rest))) : W p l e R s m args below meth c H locs cells slots Q (F0 m pc ls (vI i :: .ref a :: rest)) := by
  obtain ⟨n, f, he, hn, hi, hF⟩ := hE
  obtain ⟨i1, i2⟩ := i32_in hi hn
  refine va_bald X.hx X.hb X.hK.1 (hW.1.one he) 0 3 rfl rfl i1 hdg ?_
  rw [i2]
  have hk := kk _ hF
  unfold vI at hk
  rw [Int32.ofInt_toInt] at hk
  exact hk
theorem h_zald (X : CX p s m args meth c cc nL own ret G) (hW : WH G hp H locs) {i : Int} {F : Int → Prop} (hE : haI G hp a 2 i F) (hdg : decode cc pc = .ok (.baload, 1)) (kk : ∀ x, F x → W p l e R s m args below meth c H locs cells slots Q (F0 m (pc + 1) ls (vI x :: rest))) : W p l e R s m args below meth c H locs cells slots Q (F0 m pc ls (vI i :: .ref a :: rest)) := by
  obtain ⟨n, f, he, hn, hi, hF⟩ := hE
  obtain ⟨i1, i2⟩ := i32_in hi hn
  refine va_zald X.hx X.hb X.hK.1 (hW.1.one he) 0 2 rfl rfl i1 hdg ?_
  rw [i2]
  have hk := kk _ hF
  unfold vI at hk
  rw [Int32.ofInt_toInt] at hk
  exact hk
theorem h_lald (X : CX p s m args meth c cc nL own ret G) (hW : WH G hp H locs) {i : Int} {F : Int → Prop} (hE : haJ G hp a 1 i F) (hdg : decode cc pc = .ok (.laload, 1)) (kk : ∀ x, F x → W p l e R s m args below meth c H locs cells slots Q (F0 m (pc + 1) ls (vL x :: rest))) : W p l e R s m args below meth c H locs cells slots Q (F0 m pc ls (vI i :: .ref a :: rest)) := by
  obtain ⟨n, f, he, hn, hi, hF⟩ := hE
  obtain ⟨i1, i2⟩ := i32_in hi hn
  refine va_lald X.hx X.hb X.hK.1 (hW.1.one he) 0 1 rfl rfl i1 hdg ?_
  rw [i2]
  have hk := kk _ hF
  unfold vL at hk
  rw [Int64.ofInt_toInt] at hk
  exact hk
theorem h_aald (X : CX p s m args meth c cc nL own ret G) (hW : WH G hp H locs) {i : Int} {t : Nat} {E : String} (ht : ∀ cA : Nat → ClassId, (TYS cA)[t]? = some (cA t, .object E)) {F : Option Nat → Prop} (hE : haR G hp a t i F) (hdg : decode cc pc = .ok (.aaload, 1)) (kk : ∀ x, F x → W p l e R s m args below meth c H locs cells slots Q (F0 m (pc + 1) ls (va_rf x :: rest))) : W p l e R s m args below meth c H locs cells slots Q (F0 m pc ls (vI i :: .ref a :: rest)) := by
  obtain ⟨n, f, he, hn, hi, hF⟩ := hE
  obtain ⟨i1, i2⟩ := i32_in hi hn
  refine va_aldq X.hx X.hb X.hK.1 (hW.1.one he) 0 t rfl (ht _) i1 hdg ?_
  rw [i2]
  exact kk _ hF
theorem h_iast (X : CX p s m args meth c cc nL own ret G) (hW : WH G hp H locs) {i x : Int} {F : HP → Prop} (hE : hsI G hp a 0 i x F) (hdg : decode cc pc = .ok (.iastore, 1)) (kk : ∀ hp1 : HP, F hp1 → ∀ (H1 : Heap) (locs1 : List Loc), WH G hp1 H1 locs1 → W p l e R s m args below meth c H1 locs1 cells slots Q (F0 m (pc + 1) ls rest)) : W p l e R s m args below meth c H locs cells slots Q (F0 m pc ls (vI x :: vI i :: .ref a :: rest)) := by
  obtain ⟨n, f, he, hn, hi, hF⟩ := hE
  obtain ⟨i1, i2⟩ := i32_in hi hn
  obtain ⟨q0, h0⟩ := lst_at he (hW.1.lt he)
  rw [← i2] at hF
  refine va_iast X.hx X.hb X.hK.1 hW.1.P hW.1.D (hW.1.S hW.2) q0 0 h0 rfl i1 hdg (fun H1 locs1 hP _ hS => ?_)
  exact kk _ hF H1 locs1 (hW.1.set h0 hP hS)
theorem h_bast (X : CX p s m args meth c cc nL own ret G) (hW : WH G hp H locs) {i x : Int} {F : HP → Prop} (hE : hsB G hp a 3 i x F) (hdg : decode cc pc = .ok (.bastore, 1)) (kk : ∀ hp1 : HP, F hp1 → ∀ (H1 : Heap) (locs1 : List Loc), WH G hp1 H1 locs1 → W p l e R s m args below meth c H1 locs1 cells slots Q (F0 m (pc + 1) ls rest)) : W p l e R s m args below meth c H locs cells slots Q (F0 m pc ls (vI x :: vI i :: .ref a :: rest)) := by
  obtain ⟨n, f, he, hn, hi, hF⟩ := hE
  obtain ⟨i1, i2⟩ := i32_in hi hn
  obtain ⟨q0, h0⟩ := lst_at he (hW.1.lt he)
  rw [← i2] at hF
  refine va_bast X.hx X.hb X.hK.1 hW.1.P hW.1.D (hW.1.S hW.2) q0 3 h0 rfl i1 hdg (fun H1 locs1 hP _ hS => ?_)
  exact kk _ hF H1 locs1 (hW.1.set h0 hP hS)
theorem h_last (X : CX p s m args meth c cc nL own ret G) (hW : WH G hp H locs) {i x : Int} {F : HP → Prop} (hE : hsJ G hp a 1 i x F) (hdg : decode cc pc = .ok (.lastore, 1)) (kk : ∀ hp1 : HP, F hp1 → ∀ (H1 : Heap) (locs1 : List Loc), WH G hp1 H1 locs1 → W p l e R s m args below meth c H1 locs1 cells slots Q (F0 m (pc + 1) ls rest)) : W p l e R s m args below meth c H locs cells slots Q (F0 m pc ls (vL x :: vI i :: .ref a :: rest)) := by
  obtain ⟨n, f, he, hn, hi, hF⟩ := hE
  obtain ⟨i1, i2⟩ := i32_in hi hn
  obtain ⟨q0, h0⟩ := lst_at he (hW.1.lt he)
  rw [← i2] at hF
  refine va_last X.hx X.hb X.hK.1 hW.1.P hW.1.D (hW.1.S hW.2) q0 1 h0 rfl i1 hdg (fun H1 locs1 hP _ hS => ?_)
  exact kk _ hF H1 locs1 (hW.1.set h0 hP hS)
theorem h_aast (X : CX p s m args meth c cc nL own ret G) (hW : WH G hp H locs) {i : Int} {t : Nat} {E : String} (ht : ∀ cA : Nat → ClassId, (TYS cA)[t]? = some (cA t, .object E)) (ck : CK ci C T N ty) (hca : Cond.castable C E ∈ lw_tbl) {r : Option Nat} {F : HP → Prop} (hE : hsR G hp a t i ci r F) (hdg : decode cc pc = .ok (.aastore, 1)) (kk : ∀ hp1 : HP, F hp1 → ∀ (H1 : Heap) (locs1 : List Loc), WH G hp1 H1 locs1 → W p l e R s m args below meth c H1 locs1 cells slots Q (F0 m (pc + 1) ls rest)) : W p l e R s m args below meth c H locs cells slots Q (F0 m pc ls (va_rf r :: vI i :: .ref a :: rest)) := by
  obtain ⟨n, f, he, hn, hi, hb, hF⟩ := hE
  obtain ⟨i1, i2⟩ := i32_in hi hn
  obtain ⟨q0, h0⟩ := lst_at he (hW.1.lt he)
  rw [← i2] at hF
  cases r with
  | none =>
    refine va_astqN X.hx X.hb X.hK.1 hW.1.P hW.1.D (hW.1.S hW.2) q0 t h0 (ht _) i1 hdg (fun H1 locs1 hP _ hS => ?_)
    exact kk _ hF H1 locs1 (hW.1.set h0 hP hS)
  | some b =>
    obtain ⟨fs, hb⟩ := hb b rfl
    obtain ⟨qk, hk0⟩ := lst_at hb (hW.1.lt hb)
    refine va_astqO X.hx X.hb X.hK.1 hW.1.P hW.1.D (hW.1.S hW.2) q0 t qk ci h0 (ht _) (X.hN hca rfl) hk0 ck.1 i1 hdg (fun H1 locs1 hP _ hS => ?_)
    exact kk _ hF H1 locs1 (hW.1.set h0 hP hS)
theorem h_aastN (X : CX p s m args meth c cc nL own ret G) (hW : WH G hp H locs) {i : Int} {t : Nat} {E : String} (ht : ∀ cA : Nat → ClassId, (TYS cA)[t]? = some (cA t, .object E)) {ci : Nat} {F : HP → Prop} (hE : hsR G hp a t i ci none F) (hdg : decode cc pc = .ok (.aastore, 1)) (kk : ∀ hp1 : HP, F hp1 → ∀ (H1 : Heap) (locs1 : List Loc), WH G hp1 H1 locs1 → W p l e R s m args below meth c H1 locs1 cells slots Q (F0 m (pc + 1) ls rest)) : W p l e R s m args below meth c H locs cells slots Q (F0 m pc ls (va_rf none :: vI i :: .ref a :: rest)) := by
  obtain ⟨n, f, he, hn, hi, hb, hF⟩ := hE
  obtain ⟨i1, i2⟩ := i32_in hi hn
  obtain ⟨q0, h0⟩ := lst_at he (hW.1.lt he)
  rw [← i2] at hF
  refine va_astqN X.hx X.hb X.hK.1 hW.1.P hW.1.D (hW.1.S hW.2) q0 t h0 (ht _) i1 hdg (fun H1 locs1 hP _ hS => ?_)
  exact kk _ hF H1 locs1 (hW.1.set h0 hP hS)
theorem h_alen (X : CX p s m args meth c cc nL own ret G) (hW : WH G hp H locs) {t : Nat} {tt : FieldType} (ht : ∀ cA : Nat → ClassId, (TYS cA)[t]? = some (cA t, tt)) {F : Int → Prop} (hE : hLen G hp a t F) (hdg : decode cc pc = .ok (.arraylength, 1)) (kk : ∀ n, F n → W p l e R s m args below meth c H locs cells slots Q (F0 m (pc + 1) ls (vI n :: rest))) : W p l e R s m args below meth c H locs cells slots Q (F0 m pc ls (.ref a :: rest)) := by
  obtain ⟨n, x, he, hF⟩ := hE
  exact va_alen X.hx X.hb X.hK.1 (hW.1.one he) 0 t rfl (ht _) (v := Int32.ofInt n) (Int32.ofInt_eq_ofNat (n := n)).symm hdg (kk _ hF)
theorem h_nn {r : Option Nat} {F : Nat → Prop} (hE : hNn r F) (kk : ∀ b : Nat, F b → W p l e R s m args below meth c H locs cells slots Q (F0 m pc ls (.ref b :: rest))) : W p l e R s m args below meth c H locs cells slots Q (F0 m pc ls (va_rf r :: rest)) := by
  obtain ⟨b, rfl, hF⟩ := hE
  exact kk b hF
theorem h_ifnull (X : CX p s m args meth c cc nL own ret G) {r : Option Nat} {A B : Prop} (hE : hIf (r = none) A B) {off : Int} {tgt : Nat} (hdg : decode cc pc = .ok (.ifnull off, 3)) (ht : (pc : Int) + off = (tgt : Int)) (kt : A → W p l e R s m args below meth c H locs cells slots Q (F0 m tgt ls rest)) (kf : B → W p l e R s m args below meth c H locs cells slots Q (F0 m (pc + 3) ls rest)) : W p l e R s m args below meth c H locs cells slots Q (F0 m pc ls (va_rf r :: rest)) := by
  cases r with
  | none => exact lv_ifnullN X.hx X.hb hdg ht (kt (hE.1 rfl))
  | some b => exact lv_ifnull X.hx X.hb hdg (kf (hE.2 (fun z => by cases z)))
theorem h_ifnonnull (X : CX p s m args meth c cc nL own ret G) {r : Option Nat} {A B : Prop} (hE : hIf (¬ r = none) A B) {off : Int} {tgt : Nat} (hdg : decode cc pc = .ok (.ifnonnull off, 3)) (ht : (pc : Int) + off = (tgt : Int)) (kt : A → W p l e R s m args below meth c H locs cells slots Q (F0 m tgt ls rest)) (kf : B → W p l e R s m args below meth c H locs cells slots Q (F0 m (pc + 3) ls rest)) : W p l e R s m args below meth c H locs cells slots Q (F0 m pc ls (va_rf r :: rest)) := by
  cases r with
  | none => exact lv_ifnonnullN X.hx X.hb hdg (kf (hE.2 (fun z => z rfl)))
  | some b => exact lv_ifnonnull X.hx X.hb hdg ht (kt (hE.1 (fun z => by cases z)))
theorem h_acmp_eq (X : CX p s m args meth c cc nL own ret G) {r1 r2 : Option Nat} {A B : Prop} (hE : hIf (r1 = r2) A B) {off : Int} {tgt : Nat} (hdg : decode cc pc = .ok (.if_acmp .eq off, 3)) (ht : (pc : Int) + off = (tgt : Int)) (kt : A → W p l e R s m args below meth c H locs cells slots Q (F0 m tgt ls rest)) (kf : B → W p l e R s m args below meth c H locs cells slots Q (F0 m (pc + 3) ls rest)) : W p l e R s m args below meth c H locs cells slots Q (F0 m pc ls (va_rf r2 :: va_rf r1 :: rest)) := lv_acmp_eq X.hx X.hb hdg ht (fun h => kt (hE.1 h)) (fun h => kf (hE.2 h))
theorem h_acmp_ne (X : CX p s m args meth c cc nL own ret G) {r1 r2 : Option Nat} {A B : Prop} (hE : hIf (¬ r1 = r2) A B) {off : Int} {tgt : Nat} (hdg : decode cc pc = .ok (.if_acmp .ne off, 3)) (ht : (pc : Int) + off = (tgt : Int)) (kt : A → W p l e R s m args below meth c H locs cells slots Q (F0 m tgt ls rest)) (kf : B → W p l e R s m args below meth c H locs cells slots Q (F0 m (pc + 3) ls rest)) : W p l e R s m args below meth c H locs cells slots Q (F0 m pc ls (va_rf r2 :: va_rf r1 :: rest)) := lv_acmp_ne X.hx X.hb hdg ht (fun h => kt (hE.1 h)) (fun h => kf (hE.2 (fun z => z h)))
theorem h_castC (X : CX p s m args meth c cc nL own ret G) (hW : WH G hp H locs) (ck : CK ci C T N ty) {r : Option Nat} {F : Prop} (hE : hCast hp ci r F) {nm : String} (hq : Cond.classLink own index nm ∈ lw_all) (hca : Cond.castable C nm ∈ lw_tbl) (hdg : decode cc pc = .ok (.checkcast index, 3)) (kk : F → W p l e R s m args below meth c H locs cells slots Q (F0 m (pc + 3) ls (va_rf r :: rest))) : W p l e R s m args below meth c H locs cells slots Q (F0 m pc ls (va_rf r :: rest)) := by
  cases r with
  | none => exact lv_castN X.hx X.hb hdg (kk hE.2)
  | some b =>
    obtain ⟨fs, he⟩ := hE.1 b rfl
    exact va_castY X.hx X.hb X.ho (X.ht _ hq) (X.hN hca rfl) (va_recv X.hK.1 (hW.1.one he) (ci := ci) (q0 := 0) ck.1 rfl) hdg (kk hE.2)
theorem h_castS (X : CX p s m args meth c cc nL own ret G) (hW : WH G hp H locs) (ck : CK ci C T N ty) {r : Option Nat} {F : Prop} (hE : hCast hp ci r F) (hq : Cond.classLink own index C ∈ lw_all) (hdg : decode cc pc = .ok (.checkcast index, 3)) (kk : F → W p l e R s m args below meth c H locs cells slots Q (F0 m (pc + 3) ls (va_rf r :: rest))) : W p l e R s m args below meth c H locs cells slots Q (F0 m pc ls (va_rf r :: rest)) := by
  cases r with
  | none => exact lv_castN X.hx X.hb hdg (kk hE.2)
  | some b =>
    obtain ⟨fs, he⟩ := hE.1 b rfl
    exact va_castS X.hx X.hb X.ho (X.ht _ hq) (X.hK.1.1 ci _ ck.1).2 (va_recv X.hK.1 (hW.1.one he) (ci := ci) (q0 := 0) ck.1 rfl) hdg (kk hE.2)
theorem h_icmp_eq (X : CX p s m args meth c cc nL own ret G) {x y : Int} (x' y' : Int) (hx' : w32 x = x') (hy' : w32 y = y') {A B : Prop} (hE : hIf (x' = y') A B) {off : Int} {tgt : Nat} (hdg : decode cc pc = .ok (.if_icmp .eq off, 3)) (ht : (pc : Int) + off = (tgt : Int)) (kt : A → W p l e R s m args below meth c H locs cells slots Q (F0 m tgt ls rest)) (kf : B → W p l e R s m args below meth c H locs cells slots Q (F0 m (pc + 3) ls rest)) : W p l e R s m args below meth c H locs cells slots Q (F0 m pc ls (vI y :: vI x :: rest)) := by
  subst hx'; subst hy'
  exact lv_icmp_eq X.hx X.hb hdg ht (fun q => kt (hE.1 (i32_eq.mp q))) (fun q => kf (hE.2 (fun z => q (i32_eq.mpr z))))
theorem h_if_eq (X : CX p s m args meth c cc nL own ret G) {x : Int} (x' : Int) (hx' : w32 x = x') {A B : Prop} (hE : hIf (x' = 0) A B) {off : Int} {tgt : Nat} (hdg : decode cc pc = .ok (.ifCond .eq off, 3)) (ht : (pc : Int) + off = (tgt : Int)) (kt : A → W p l e R s m args below meth c H locs cells slots Q (F0 m tgt ls rest)) (kf : B → W p l e R s m args below meth c H locs cells slots Q (F0 m (pc + 3) ls rest)) : W p l e R s m args below meth c H locs cells slots Q (F0 m pc ls (vI x :: rest)) := by
  subst hx'
  exact lv_if_eq X.hx X.hb hdg ht (fun q => kt (hE.1 (i32_eq0.mp q))) (fun q => kf (hE.2 (fun z => q (i32_eq0.mpr z))))
theorem h_lcmp_eq (X : CX p s m args meth c cc nL own ret G) {x y : Int} (x' y' : Int) (hx' : w64 x = x') (hy' : w64 y = y') {A B : Prop} (hE : hIf (x' = y') A B) {off : Int} {tgt : Nat} (hd0 : decode cc pc = .ok (.lcmp, 1)) (hdg : decode cc (pc + 1) = .ok (.ifCond .eq off, 3)) (ht : ((pc + 1 : Nat) : Int) + off = (tgt : Int)) (kt : A → W p l e R s m args below meth c H locs cells slots Q (F0 m tgt ls rest)) (kf : B → W p l e R s m args below meth c H locs cells slots Q (F0 m (pc + 1 + 3) ls rest)) : W p l e R s m args below meth c H locs cells slots Q (F0 m pc ls (vL y :: vL x :: rest)) := by
  subst hx'; subst hy'
  exact W.lcmp X.hx X.hb hd0 (lv_if_eq X.hx X.hb hdg ht (fun q => kt (hE.1 (lc_eq.mp q))) (fun q => kf (hE.2 (fun z => q (lc_eq.mpr z)))))
theorem h_icmp_ne (X : CX p s m args meth c cc nL own ret G) {x y : Int} (x' y' : Int) (hx' : w32 x = x') (hy' : w32 y = y') {A B : Prop} (hE : hIf (¬ x' = y') A B) {off : Int} {tgt : Nat} (hdg : decode cc pc = .ok (.if_icmp .ne off, 3)) (ht : (pc : Int) + off = (tgt : Int)) (kt : A → W p l e R s m args below meth c H locs cells slots Q (F0 m tgt ls rest)) (kf : B → W p l e R s m args below meth c H locs cells slots Q (F0 m (pc + 3) ls rest)) : W p l e R s m args below meth c H locs cells slots Q (F0 m pc ls (vI y :: vI x :: rest)) := by
  subst hx'; subst hy'
  exact lv_icmp_ne X.hx X.hb hdg ht (fun q => kt (hE.1 (fun z => q (i32_eq.mpr z)))) (fun q => kf (hE.2 (fun z => z (i32_eq.mp q))))
theorem h_if_ne (X : CX p s m args meth c cc nL own ret G) {x : Int} (x' : Int) (hx' : w32 x = x') {A B : Prop} (hE : hIf (¬ x' = 0) A B) {off : Int} {tgt : Nat} (hdg : decode cc pc = .ok (.ifCond .ne off, 3)) (ht : (pc : Int) + off = (tgt : Int)) (kt : A → W p l e R s m args below meth c H locs cells slots Q (F0 m tgt ls rest)) (kf : B → W p l e R s m args below meth c H locs cells slots Q (F0 m (pc + 3) ls rest)) : W p l e R s m args below meth c H locs cells slots Q (F0 m pc ls (vI x :: rest)) := by
  subst hx'
  exact lv_if_ne X.hx X.hb hdg ht (fun q => kt (hE.1 (fun z => q (i32_eq0.mpr z)))) (fun q => kf (hE.2 (fun z => z (i32_eq0.mp q))))
theorem h_lcmp_ne (X : CX p s m args meth c cc nL own ret G) {x y : Int} (x' y' : Int) (hx' : w64 x = x') (hy' : w64 y = y') {A B : Prop} (hE : hIf (¬ x' = y') A B) {off : Int} {tgt : Nat} (hd0 : decode cc pc = .ok (.lcmp, 1)) (hdg : decode cc (pc + 1) = .ok (.ifCond .ne off, 3)) (ht : ((pc + 1 : Nat) : Int) + off = (tgt : Int)) (kt : A → W p l e R s m args below meth c H locs cells slots Q (F0 m tgt ls rest)) (kf : B → W p l e R s m args below meth c H locs cells slots Q (F0 m (pc + 1 + 3) ls rest)) : W p l e R s m args below meth c H locs cells slots Q (F0 m pc ls (vL y :: vL x :: rest)) := by
  subst hx'; subst hy'
  exact W.lcmp X.hx X.hb hd0 (lv_if_ne X.hx X.hb hdg ht (fun q => kt (hE.1 (fun z => q (lc_eq.mpr z)))) (fun q => kf (hE.2 (fun z => z (lc_eq.mp q)))))
theorem h_icmp_lt (X : CX p s m args meth c cc nL own ret G) {x y : Int} (x' y' : Int) (hx' : w32 x = x') (hy' : w32 y = y') {A B : Prop} (hE : hIf (x' < y') A B) {off : Int} {tgt : Nat} (hdg : decode cc pc = .ok (.if_icmp .lt off, 3)) (ht : (pc : Int) + off = (tgt : Int)) (kt : A → W p l e R s m args below meth c H locs cells slots Q (F0 m tgt ls rest)) (kf : B → W p l e R s m args below meth c H locs cells slots Q (F0 m (pc + 3) ls rest)) : W p l e R s m args below meth c H locs cells slots Q (F0 m pc ls (vI y :: vI x :: rest)) := by
  subst hx'; subst hy'
  exact lv_icmp_lt X.hx X.hb hdg ht (fun q => kt (hE.1 (i32_lt.mp q))) (fun q => kf (hE.2 (fun z => q (i32_lt.mpr z))))
theorem h_if_lt (X : CX p s m args meth c cc nL own ret G) {x : Int} (x' : Int) (hx' : w32 x = x') {A B : Prop} (hE : hIf (x' < 0) A B) {off : Int} {tgt : Nat} (hdg : decode cc pc = .ok (.ifCond .lt off, 3)) (ht : (pc : Int) + off = (tgt : Int)) (kt : A → W p l e R s m args below meth c H locs cells slots Q (F0 m tgt ls rest)) (kf : B → W p l e R s m args below meth c H locs cells slots Q (F0 m (pc + 3) ls rest)) : W p l e R s m args below meth c H locs cells slots Q (F0 m pc ls (vI x :: rest)) := by
  subst hx'
  exact lv_if_lt X.hx X.hb hdg ht (fun q => kt (hE.1 (i32_lt0.mp q))) (fun q => kf (hE.2 (fun z => q (i32_lt0.mpr z))))
theorem h_lcmp_lt (X : CX p s m args meth c cc nL own ret G) {x y : Int} (x' y' : Int) (hx' : w64 x = x') (hy' : w64 y = y') {A B : Prop} (hE : hIf (x' < y') A B) {off : Int} {tgt : Nat} (hd0 : decode cc pc = .ok (.lcmp, 1)) (hdg : decode cc (pc + 1) = .ok (.ifCond .lt off, 3)) (ht : ((pc + 1 : Nat) : Int) + off = (tgt : Int)) (kt : A → W p l e R s m args below meth c H locs cells slots Q (F0 m tgt ls rest)) (kf : B → W p l e R s m args below meth c H locs cells slots Q (F0 m (pc + 1 + 3) ls rest)) : W p l e R s m args below meth c H locs cells slots Q (F0 m pc ls (vL y :: vL x :: rest)) := by
  subst hx'; subst hy'
  exact W.lcmp X.hx X.hb hd0 (lv_if_lt X.hx X.hb hdg ht (fun q => kt (hE.1 (lc_lt.mp q))) (fun q => kf (hE.2 (fun z => q (lc_lt.mpr z)))))
theorem h_icmp_ge (X : CX p s m args meth c cc nL own ret G) {x y : Int} (x' y' : Int) (hx' : w32 x = x') (hy' : w32 y = y') {A B : Prop} (hE : hIf (y' ≤ x') A B) {off : Int} {tgt : Nat} (hdg : decode cc pc = .ok (.if_icmp .ge off, 3)) (ht : (pc : Int) + off = (tgt : Int)) (kt : A → W p l e R s m args below meth c H locs cells slots Q (F0 m tgt ls rest)) (kf : B → W p l e R s m args below meth c H locs cells slots Q (F0 m (pc + 3) ls rest)) : W p l e R s m args below meth c H locs cells slots Q (F0 m pc ls (vI y :: vI x :: rest)) := by
  subst hx'; subst hy'
  exact lv_icmp_ge X.hx X.hb hdg ht (fun q => kt (hE.1 (i32_le.mp q))) (fun q => kf (hE.2 (fun z => q (i32_le.mpr z))))
theorem h_if_ge (X : CX p s m args meth c cc nL own ret G) {x : Int} (x' : Int) (hx' : w32 x = x') {A B : Prop} (hE : hIf (0 ≤ x') A B) {off : Int} {tgt : Nat} (hdg : decode cc pc = .ok (.ifCond .ge off, 3)) (ht : (pc : Int) + off = (tgt : Int)) (kt : A → W p l e R s m args below meth c H locs cells slots Q (F0 m tgt ls rest)) (kf : B → W p l e R s m args below meth c H locs cells slots Q (F0 m (pc + 3) ls rest)) : W p l e R s m args below meth c H locs cells slots Q (F0 m pc ls (vI x :: rest)) := by
  subst hx'
  exact lv_if_ge X.hx X.hb hdg ht (fun q => kt (hE.1 (i32_ge0.mp q))) (fun q => kf (hE.2 (fun z => q (i32_ge0.mpr z))))
theorem h_lcmp_ge (X : CX p s m args meth c cc nL own ret G) {x y : Int} (x' y' : Int) (hx' : w64 x = x') (hy' : w64 y = y') {A B : Prop} (hE : hIf (y' ≤ x') A B) {off : Int} {tgt : Nat} (hd0 : decode cc pc = .ok (.lcmp, 1)) (hdg : decode cc (pc + 1) = .ok (.ifCond .ge off, 3)) (ht : ((pc + 1 : Nat) : Int) + off = (tgt : Int)) (kt : A → W p l e R s m args below meth c H locs cells slots Q (F0 m tgt ls rest)) (kf : B → W p l e R s m args below meth c H locs cells slots Q (F0 m (pc + 1 + 3) ls rest)) : W p l e R s m args below meth c H locs cells slots Q (F0 m pc ls (vL y :: vL x :: rest)) := by
  subst hx'; subst hy'
  exact W.lcmp X.hx X.hb hd0 (lv_if_ge X.hx X.hb hdg ht (fun q => kt (hE.1 (lc_ge.mp q))) (fun q => kf (hE.2 (fun z => q (lc_ge.mpr z)))))
theorem h_icmp_gt (X : CX p s m args meth c cc nL own ret G) {x y : Int} (x' y' : Int) (hx' : w32 x = x') (hy' : w32 y = y') {A B : Prop} (hE : hIf (y' < x') A B) {off : Int} {tgt : Nat} (hdg : decode cc pc = .ok (.if_icmp .gt off, 3)) (ht : (pc : Int) + off = (tgt : Int)) (kt : A → W p l e R s m args below meth c H locs cells slots Q (F0 m tgt ls rest)) (kf : B → W p l e R s m args below meth c H locs cells slots Q (F0 m (pc + 3) ls rest)) : W p l e R s m args below meth c H locs cells slots Q (F0 m pc ls (vI y :: vI x :: rest)) := by
  subst hx'; subst hy'
  exact lv_icmp_gt X.hx X.hb hdg ht (fun q => kt (hE.1 (i32_lt.mp q))) (fun q => kf (hE.2 (fun z => q (i32_lt.mpr z))))
theorem h_if_gt (X : CX p s m args meth c cc nL own ret G) {x : Int} (x' : Int) (hx' : w32 x = x') {A B : Prop} (hE : hIf (0 < x') A B) {off : Int} {tgt : Nat} (hdg : decode cc pc = .ok (.ifCond .gt off, 3)) (ht : (pc : Int) + off = (tgt : Int)) (kt : A → W p l e R s m args below meth c H locs cells slots Q (F0 m tgt ls rest)) (kf : B → W p l e R s m args below meth c H locs cells slots Q (F0 m (pc + 3) ls rest)) : W p l e R s m args below meth c H locs cells slots Q (F0 m pc ls (vI x :: rest)) := by
  subst hx'
  exact lv_if_gt X.hx X.hb hdg ht (fun q => kt (hE.1 (i32_gt0.mp q))) (fun q => kf (hE.2 (fun z => q (i32_gt0.mpr z))))
theorem h_lcmp_gt (X : CX p s m args meth c cc nL own ret G) {x y : Int} (x' y' : Int) (hx' : w64 x = x') (hy' : w64 y = y') {A B : Prop} (hE : hIf (y' < x') A B) {off : Int} {tgt : Nat} (hd0 : decode cc pc = .ok (.lcmp, 1)) (hdg : decode cc (pc + 1) = .ok (.ifCond .gt off, 3)) (ht : ((pc + 1 : Nat) : Int) + off = (tgt : Int)) (kt : A → W p l e R s m args below meth c H locs cells slots Q (F0 m tgt ls rest)) (kf : B → W p l e R s m args below meth c H locs cells slots Q (F0 m (pc + 1 + 3) ls rest)) : W p l e R s m args below meth c H locs cells slots Q (F0 m pc ls (vL y :: vL x :: rest)) := by
  subst hx'; subst hy'
  exact W.lcmp X.hx X.hb hd0 (lv_if_gt X.hx X.hb hdg ht (fun q => kt (hE.1 (lc_gt.mp q))) (fun q => kf (hE.2 (fun z => q (lc_gt.mpr z)))))
theorem h_icmp_le (X : CX p s m args meth c cc nL own ret G) {x y : Int} (x' y' : Int) (hx' : w32 x = x') (hy' : w32 y = y') {A B : Prop} (hE : hIf (x' ≤ y') A B) {off : Int} {tgt : Nat} (hdg : decode cc pc = .ok (.if_icmp .le off, 3)) (ht : (pc : Int) + off = (tgt : Int)) (kt : A → W p l e R s m args below meth c H locs cells slots Q (F0 m tgt ls rest)) (kf : B → W p l e R s m args below meth c H locs cells slots Q (F0 m (pc + 3) ls rest)) : W p l e R s m args below meth c H locs cells slots Q (F0 m pc ls (vI y :: vI x :: rest)) := by
  subst hx'; subst hy'
  exact lv_icmp_le X.hx X.hb hdg ht (fun q => kt (hE.1 (i32_le.mp q))) (fun q => kf (hE.2 (fun z => q (i32_le.mpr z))))
theorem h_if_le (X : CX p s m args meth c cc nL own ret G) {x : Int} (x' : Int) (hx' : w32 x = x') {A B : Prop} (hE : hIf (x' ≤ 0) A B) {off : Int} {tgt : Nat} (hdg : decode cc pc = .ok (.ifCond .le off, 3)) (ht : (pc : Int) + off = (tgt : Int)) (kt : A → W p l e R s m args below meth c H locs cells slots Q (F0 m tgt ls rest)) (kf : B → W p l e R s m args below meth c H locs cells slots Q (F0 m (pc + 3) ls rest)) : W p l e R s m args below meth c H locs cells slots Q (F0 m pc ls (vI x :: rest)) := by
  subst hx'
  exact lv_if_le X.hx X.hb hdg ht (fun q => kt (hE.1 (i32_le0.mp q))) (fun q => kf (hE.2 (fun z => q (i32_le0.mpr z))))
theorem h_lcmp_le (X : CX p s m args meth c cc nL own ret G) {x y : Int} (x' y' : Int) (hx' : w64 x = x') (hy' : w64 y = y') {A B : Prop} (hE : hIf (x' ≤ y') A B) {off : Int} {tgt : Nat} (hd0 : decode cc pc = .ok (.lcmp, 1)) (hdg : decode cc (pc + 1) = .ok (.ifCond .le off, 3)) (ht : ((pc + 1 : Nat) : Int) + off = (tgt : Int)) (kt : A → W p l e R s m args below meth c H locs cells slots Q (F0 m tgt ls rest)) (kf : B → W p l e R s m args below meth c H locs cells slots Q (F0 m (pc + 1 + 3) ls rest)) : W p l e R s m args below meth c H locs cells slots Q (F0 m pc ls (vL y :: vL x :: rest)) := by
  subst hx'; subst hy'
  exact W.lcmp X.hx X.hb hd0 (lv_if_le X.hx X.hb hdg ht (fun q => kt (hE.1 (lc_le.mp q))) (fun q => kf (hE.2 (fun z => q (lc_le.mpr z)))))
theorem h_top {x : Int} {F : Int → Prop} (hE : hJn x F) (kk : ∀ v : Int, F v → W p l e R s m args below meth c H locs cells slots Q (F0 m pc ls (vI v :: rest))) : W p l e R s m args below meth c H locs cells slots Q (F0 m pc ls (vI x :: rest)) := kk x hE
theorem h_topl {x : Int} {F : Int → Prop} (hE : hJn x F) (kk : ∀ v : Int, F v → W p l e R s m args below meth c H locs cells slots Q (F0 m pc ls (vL v :: rest))) : W p l e R s m args below meth c H locs cells slots Q (F0 m pc ls (vL x :: rest)) := kk x hE
theorem h_iinc (X : CX p s m args meth c cc nL own ret G) {lv : List (Nat × Value)} (hl : lv_has ls nL lv) (j : Nat) {i : Nat} {x n : Int} {F : Int → Prop} (hE : hJn (x + n) F) (lv' : Int → List (Nat × Value)) (hj : lv[j]? = some (i, vI x)) (hdg : decode cc pc = .ok (.iinc i n, 3)) (hn : i < nL) (hv : ∀ v : Int, (i, vI v) :: lv.filter (fun q => !(q.1 == i) && !(q.1 + 1 == i && q.2.category == 2)) = lv' v) (kk : ∀ v : Int, F v → ∀ ls' : Array Slot, lv_has ls' nL (lv' v) → W p l e R s m args below meth c H locs cells slots Q (F0 m (pc + 3) ls' rest)) : W p l e R s m args below meth c H locs cells slots Q (F0 m pc ls rest) := lv_iinc X.hx X.hb hdg hl hj (v := Int32.ofInt (x + n)) (by rw [Int32.ofInt_add]) hn (hv (x + n)) (kk (x + n) hE)
theorem MH.of {y : MethodName} {d mc ms : Nat} {vs : List Value} {lv : List (Nat × Value)} {Z : Option Value → HP → Prop} (hy : plainFor y = true) (hn : (lg_sl vs).length ≤ nL) (hlv : lv_args 0 vs = lv)
    (body : ∀ (p : Program) (e : Env) (s : State) (m : MethodId) (below : List Frame) (meth : Method) (c : Code) (ls : Array Slot), CX p s m vs.toArray meth c cc nL y.cls ret G → meth.name = y.name → WH G hp s.heap [] → lv_has ls nL lv → W p l e (rmA d mc ms) s m vs.toArray below meth c s.heap [] 0 0 (QH below G vs.toArray s mc ms Z) (F0 m 0 ls [])) : MH l y (ws_ y cc nL ret) d mc ms G vs hp Z := by
  refine Met.ofWF (cc := cc) (maxL := nL) (ret := ret) hy rfl ?_
  intro p e s m args below meth c s₁ B hml hv
  obtain ⟨rfl, hK, hM⟩ := hv
  have hts := atoms_spec (ws := ws_ y cc nL ret) B.pre
  have hl := lv_entry vs (n := nL) hn
  rw [lg_entry_eq]
  generalize (lg_sl vs ++ List.replicate (nL - (lg_sl vs).length) Slot.unset).toArray = ls at hl ⊢
  rw [hlv] at hl
  exact body p e s m below meth c ls ⟨⟨B.exec, B.bytes, hml, findClass_of_methodNamed B.named, fun w h => hts w (List.mem_cons_of_mem _ h)⟩, B.returns, B.notSynchronized, hK⟩ (name_of_methodNamed B.named B.method).1 ⟨hM, fun q h => by cases h⟩ hl
theorem h_zret {tv : FieldType} {x : Int} {mc ms : Nat} {q : Int → HP → Prop} (X : CX p s m args meth c cc nL own (some tv) G) (hW : WH G hp H locs) (hE : q x hp) (hn : narrow tv (vI x) = vI x) (h1 : cells ≤ mc) (h2 : slots ≤ ms) (hdg : decode cc pc = .ok (.ireturn, 1)) : W p l e R s m args below meth c H locs cells slots (QH below G args s mc ms (pI q)) (F0 m pc ls [vI x]) :=
  W.widen h1 h2 (W.zret X.hx X.hb X.2.1 hn (fun t ht _ => ⟨_, hp, rfl, ⟨x, rfl, hE⟩, by rw [ht]; exact hW.1⟩) hW.2 hdg X.2.2.1)
theorem h_lret {x : Int} {mc ms : Nat} {q : Int → HP → Prop} (X : CX p s m args meth c cc nL own (some .long) G) (hW : WH G hp H locs) (hE : q x hp) (h1 : cells ≤ mc) (h2 : slots ≤ ms) (hdg : decode cc pc = .ok (.lreturn, 1)) : W p l e R s m args below meth c H locs cells slots (QH below G args s mc ms (pJ q)) (F0 m pc ls [vL x]) :=
  W.widen h1 h2 (W.lret X.hx X.hb X.2.1 (fun t ht _ => ⟨_, hp, rfl, ⟨x, rfl, hE⟩, by rw [ht]; exact hW.1⟩) hW.2 hdg X.2.2.1)
theorem h_vret {mc ms : Nat} {q : HP → Prop} (X : CX p s m args meth c cc nL own none G) (hW : WH G hp H locs) (hE : q hp) (h1 : cells ≤ mc) (h2 : slots ≤ ms) (hdg : decode cc pc = .ok (.return_, 1)) : W p l e R s m args below meth c H locs cells slots (QH below G args s mc ms (pV q)) (F0 m pc ls []) :=
  W.widen h1 h2 (W.vret X.hx X.hb X.2.1 (fun t ht _ => ⟨_, hp, rfl, ⟨rfl, hE⟩, by rw [ht]; exact hW.1⟩) hW.2 hdg X.2.2.1)
theorem h_rret {tv : FieldType} {r : Option Nat} {mc ms : Nat} {q : Option Nat → HP → Prop} (X : CX p s m args meth c cc nL own (some tv) G) (hW : WH G hp H locs) (hrt : (∃ n, tv = .object n) ∨ ∃ t, tv = .array t) (hE : q r hp) (h1 : cells ≤ mc) (h2 : slots ≤ ms) (hdg : decode cc pc = .ok (.areturn, 1)) : W p l e R s m args below meth c H locs cells slots (QH below G args s mc ms (pR q)) (F0 m pc ls [va_rf r]) :=
  W.widen h1 h2 (W.aret X.hx X.hb X.2.1 hrt (va_rf_or r) (fun t ht _ => ⟨_, hp, rfl, ⟨r, rfl, hE⟩, by rw [ht]; exact hW.1⟩) hW.2 hdg X.2.2.1)
theorem h_blind {As : List Value} : FrameBlind (va_Pc As (fun U => KG G U ∧ WR G hp U.heap)) := fun a U g mk q => ⟨q.1, KG.same (u := U) (U := U.calling g mk a) rfl q.2.1, q.2.2⟩
theorem h_run {mc ms : Nat} {st0 : List Value} {Z : Option Value → HP → Prop} (hr : va_Run p l e R s m args below meth c H locs cells slots mc ms (F0 m pc ls st0) rest (fun _ oc t => ∃ (rv : Option Value) (hp1 : HP), oc = .returned rv ∧ Z rv hp1 ∧ WR G hp1 t.heap) (fun q => G.2.2.size ≤ q)) (hL : LO G locs)
    (kk : ∀ (rv : Option Value) (hp1 : HP), Z rv hp1 → ∀ (H1 : Heap) (locs1 : List Loc), WH G hp1 H1 locs1 → W p l e R s m args below meth c H1 locs1 (cells + mc) (slots + ms) Q (F0 m (pc + 3) ls (rv.toList ++ rest))) : W p l e R s m args below meth c H locs cells slots Q (F0 m pc ls st0) := by
  intro T hT X
  obtain ⟨v, st₀, t, T', L, h0, X', hL', e1, e2, ⟨rv, hp1, hv, hz, hw⟩, st⟩ := hr T hT X
  cases hv
  obtain ⟨t2, a1, b1⟩ := kk v hp1 hz T'.heap (locs ++ L) ⟨by rw [e1]; exact hw, fun q hq => (List.mem_append.mp hq).elim (hL q) (hL' q)⟩ T' rfl X'
  exact ⟨t2, st t2 a1, b1⟩
theorem h_run5 {mc ms : Nat} {st0 : List Value} {Z : Option Value → HP → Prop} (hr : va_Run5 p l e R s m args below meth c H locs cells slots mc ms (F0 m pc ls st0) rest (fun _ oc t => ∃ (rv : Option Value) (hp1 : HP), oc = .returned rv ∧ Z rv hp1 ∧ WR G hp1 t.heap) (fun q => G.2.2.size ≤ q)) (hL : LO G locs)
    (kk : ∀ (rv : Option Value) (hp1 : HP), Z rv hp1 → ∀ (H1 : Heap) (locs1 : List Loc), WH G hp1 H1 locs1 → W p l e R s m args below meth c H1 locs1 (cells + mc) (slots + ms) Q (F0 m (pc + 5) ls (rv.toList ++ rest))) : W p l e R s m args below meth c H locs cells slots Q (F0 m pc ls st0) := by
  intro T hT X
  obtain ⟨v, st₀, t, T', L, h0, X', hL', e1, e2, ⟨rv, hp1, hv, hz, hw⟩, st⟩ := hr T hT X
  cases hv
  obtain ⟨t2, a1, b1⟩ := kk v hp1 hz T'.heap (locs ++ L) ⟨by rw [e1]; exact hw, fun q hq => (List.mem_append.mp hq).elim (hL q) (hL' q)⟩ T' rfl X'
  exact ⟨t2, st t2 a1, b1⟩
theorem h_callVV {dd d1 n maxL mc ms mcR msR : Nat} {y : MethodName} {bytes : ByteArray} {ry : Option FieldType} {As st0 : List Value} {q : HP → Prop} (X : CX p s m args meth c cc nL own ret G) (hW : WH G hp H locs) {fs : List Value} (he : hp a = some (.inr (ci, fs))) (ck : CK ci C T N ty) (hMet : MH l y (ws_ y bytes maxL ry) d1 mc ms G (.ref a :: As) hp (pV q)) (cw : CallW (rmA dd mcR msR) s args own C index y bytes maxL ry (ws_ y bytes maxL ry) (rmA d1 mc ms) mc ms n) (hn : As.length = n) (hl : ls.size = nL) (hst : st0 = As.reverse ++ .ref a :: rest) (hroom : (rest.map fun v => v.category).sum ≤ 8) (hdg : decode cc pc = .ok (.invokevirtual index, 3)) (hcs : cells + mc ≤ mcR ∧ slots + ms ≤ msR) (c1 s1 : Nat) (e1 : cells + mc = c1) (e2 : slots + ms = s1) (kk : ∀ (hp1 : HP) (_ : q hp1) (H1 : Heap) (locs1 : List Loc), WH G hp1 H1 locs1 → W p l e (rmA dd mcR msR) s m args below meth c H1 locs1 c1 s1 Q (F0 m (pc + 3) ls rest)): W p l e (rmA dd mcR msR) s m args below meth c H locs cells slots Q (F0 m pc ls st0) := by
  subst e1; subst e2
  refine h_run (va_runV X.1 hMet cw ⟨h_blind, va_recv X.hK.1 (hW.1.one he) (ci := ci) (q0 := 0) ck.1 rfl, fun U hU hWm => ⟨rfl, X.hK.warm hWm, by rw [hU]; exact hW.1⟩⟩ rfl hn hl hst (lv_room hroom) hdg hcs) hW.2 (fun rv hp1 hz H1 locs1 hw => ?_)
  obtain ⟨rfl, hz⟩ := hz
  exact kk hp1 hz H1 locs1 hw
theorem h_callUV {owner : String} {y0 : MethodName} {dd d1 n maxL mc ms mcR msR : Nat} {y : MethodName} {bytes : ByteArray} {ry : Option FieldType} {As st0 : List Value} {q : HP → Prop} (X : CX p s m args meth c cc nL own ret G) (hW : WH G hp H locs) {fs : List Value} (he : hp a = some (.inr (ci, fs))) (ck : CK ci C T N ty) (hMet : MH l y (ws_ y bytes maxL ry) d1 mc ms G (.ref a :: As) hp (pV q)) (cw : va_CU (rmA dd mcR msR) s args own C owner index y0 y bytes maxL ry (ws_ y bytes maxL ry) (rmA d1 mc ms) mc ms n) (hn : As.length = n) (hl : ls.size = nL) (hst : st0 = As.reverse ++ .ref a :: rest) (hroom : (rest.map fun v => v.category).sum ≤ 8) (hdg : decode cc pc = .ok (.invokevirtual index, 3)) (hcs : cells + mc ≤ mcR ∧ slots + ms ≤ msR) (c1 s1 : Nat) (e1 : cells + mc = c1) (e2 : slots + ms = s1) (kk : ∀ (hp1 : HP) (_ : q hp1) (H1 : Heap) (locs1 : List Loc), WH G hp1 H1 locs1 → W p l e (rmA dd mcR msR) s m args below meth c H1 locs1 c1 s1 Q (F0 m (pc + 3) ls rest)): W p l e (rmA dd mcR msR) s m args below meth c H locs cells slots Q (F0 m pc ls st0) := by
  subst e1; subst e2
  refine h_run (va_runU X.1 hMet cw ⟨h_blind, va_recv X.hK.1 (hW.1.one he) (ci := ci) (q0 := 0) ck.1 rfl, fun U hU hWm => ⟨rfl, X.hK.warm hWm, by rw [hU]; exact hW.1⟩⟩ rfl hn hl hst (lv_room hroom) hdg hcs) hW.2 (fun rv hp1 hz H1 locs1 hw => ?_)
  obtain ⟨rfl, hz⟩ := hz
  exact kk hp1 hz H1 locs1 hw
theorem h_callFV {y0 : MethodName} {count : Nat} {dd d1 n maxL mc ms mcR msR : Nat} {y : MethodName} {bytes : ByteArray} {ry : Option FieldType} {As st0 : List Value} {q : HP → Prop} (X : CX p s m args meth c cc nL own ret G) (hW : WH G hp H locs) {fs : List Value} (he : hp a = some (.inr (ci, fs))) (ck : CK ci C T N ty) (hMet : MH l y (ws_ y bytes maxL ry) d1 mc ms G (.ref a :: As) hp (pV q)) (cw : va_CI (rmA dd mcR msR) s args own C index y0 y bytes maxL ry (ws_ y bytes maxL ry) (rmA d1 mc ms) mc ms n) (hn : As.length = n) (hl : ls.size = nL) (hst : st0 = As.reverse ++ .ref a :: rest) (hroom : (rest.map fun v => v.category).sum ≤ 8) (hdg : decode cc pc = .ok (.invokeinterface index count, 5)) (hcs : cells + mc ≤ mcR ∧ slots + ms ≤ msR) (c1 s1 : Nat) (e1 : cells + mc = c1) (e2 : slots + ms = s1) (kk : ∀ (hp1 : HP) (_ : q hp1) (H1 : Heap) (locs1 : List Loc), WH G hp1 H1 locs1 → W p l e (rmA dd mcR msR) s m args below meth c H1 locs1 c1 s1 Q (F0 m (pc + 5) ls rest)): W p l e (rmA dd mcR msR) s m args below meth c H locs cells slots Q (F0 m pc ls st0) := by
  subst e1; subst e2
  refine h_run5 (va_runF (X.hK.1.1 ci _ ck.1).2 X.1 hMet cw ⟨h_blind, va_recv X.hK.1 (hW.1.one he) (ci := ci) (q0 := 0) ck.1 rfl, fun U hU hWm => ⟨rfl, X.hK.warm hWm, by rw [hU]; exact hW.1⟩⟩ rfl hn hl hst (lv_room hroom) hdg hcs) hW.2 (fun rv hp1 hz H1 locs1 hw => ?_)
  obtain ⟨rfl, hz⟩ := hz
  exact kk hp1 hz H1 locs1 hw
theorem h_callSV {dd d1 n maxL mc ms mcR msR : Nat} {y : MethodName} {bytes : ByteArray} {ry : Option FieldType} {As st0 : List Value} {q : HP → Prop} (X : CX p s m args meth c cc nL own ret G) (hW : WH G hp H locs) (hMet : MH l y (ws_ y bytes maxL ry) d1 mc ms G As hp (pV q)) (cw : CallB (rmA dd mcR msR) s args own index y bytes maxL ry (ws_ y bytes maxL ry) (rmA d1 mc ms) mc ms n ∧ (Cond.static y).before args s = true) (hn : As.length = n) (hl : ls.size = nL) (hst : st0 = As.reverse ++ rest) (hroom : (rest.map fun v => v.category).sum ≤ 8) (hdg : decode cc pc = .ok (.invokestatic index, 3)) (hcs : cells + mc ≤ mcR ∧ slots + ms ≤ msR) (c1 s1 : Nat) (e1 : cells + mc = c1) (e2 : slots + ms = s1) (kk : ∀ (hp1 : HP) (_ : q hp1) (H1 : Heap) (locs1 : List Loc), WH G hp1 H1 locs1 → W p l e (rmA dd mcR msR) s m args below meth c H1 locs1 c1 s1 Q (F0 m (pc + 3) ls rest)): W p l e (rmA dd mcR msR) s m args below meth c H locs cells slots Q (F0 m pc ls st0) := by
  subst e1; subst e2
  refine h_run (va_runS X.1 hMet cw ⟨h_blind, fun U hU hWm => ⟨rfl, X.hK.warm hWm, by rw [hU]; exact hW.1⟩⟩ rfl hn hl hst (lv_room hroom) hdg hcs) hW.2 (fun rv hp1 hz H1 locs1 hw => ?_)
  obtain ⟨rfl, hz⟩ := hz
  exact kk hp1 hz H1 locs1 hw
theorem h_callVI {dd d1 n maxL mc ms mcR msR : Nat} {y : MethodName} {bytes : ByteArray} {ry : Option FieldType} {As st0 : List Value} {q : Int → HP → Prop} (X : CX p s m args meth c cc nL own ret G) (hW : WH G hp H locs) {fs : List Value} (he : hp a = some (.inr (ci, fs))) (ck : CK ci C T N ty) (hMet : MH l y (ws_ y bytes maxL ry) d1 mc ms G (.ref a :: As) hp (pI q)) (cw : CallW (rmA dd mcR msR) s args own C index y bytes maxL ry (ws_ y bytes maxL ry) (rmA d1 mc ms) mc ms n) (hn : As.length = n) (hl : ls.size = nL) (hst : st0 = As.reverse ++ .ref a :: rest) (hroom : (rest.map fun v => v.category).sum ≤ 8) (hdg : decode cc pc = .ok (.invokevirtual index, 3)) (hcs : cells + mc ≤ mcR ∧ slots + ms ≤ msR) (c1 s1 : Nat) (e1 : cells + mc = c1) (e2 : slots + ms = s1) (kk : ∀ (x : Int) (hp1 : HP) (_ : q x hp1) (H1 : Heap) (locs1 : List Loc), WH G hp1 H1 locs1 → W p l e (rmA dd mcR msR) s m args below meth c H1 locs1 c1 s1 Q (F0 m (pc + 3) ls (vI x :: rest))): W p l e (rmA dd mcR msR) s m args below meth c H locs cells slots Q (F0 m pc ls st0) := by
  subst e1; subst e2
  refine h_run (va_runV X.1 hMet cw ⟨h_blind, va_recv X.hK.1 (hW.1.one he) (ci := ci) (q0 := 0) ck.1 rfl, fun U hU hWm => ⟨rfl, X.hK.warm hWm, by rw [hU]; exact hW.1⟩⟩ rfl hn hl hst (lv_room hroom) hdg hcs) hW.2 (fun rv hp1 hz H1 locs1 hw => ?_)
  obtain ⟨x, rfl, hz⟩ := hz
  exact kk x hp1 hz H1 locs1 hw
theorem h_callUI {owner : String} {y0 : MethodName} {dd d1 n maxL mc ms mcR msR : Nat} {y : MethodName} {bytes : ByteArray} {ry : Option FieldType} {As st0 : List Value} {q : Int → HP → Prop} (X : CX p s m args meth c cc nL own ret G) (hW : WH G hp H locs) {fs : List Value} (he : hp a = some (.inr (ci, fs))) (ck : CK ci C T N ty) (hMet : MH l y (ws_ y bytes maxL ry) d1 mc ms G (.ref a :: As) hp (pI q)) (cw : va_CU (rmA dd mcR msR) s args own C owner index y0 y bytes maxL ry (ws_ y bytes maxL ry) (rmA d1 mc ms) mc ms n) (hn : As.length = n) (hl : ls.size = nL) (hst : st0 = As.reverse ++ .ref a :: rest) (hroom : (rest.map fun v => v.category).sum ≤ 8) (hdg : decode cc pc = .ok (.invokevirtual index, 3)) (hcs : cells + mc ≤ mcR ∧ slots + ms ≤ msR) (c1 s1 : Nat) (e1 : cells + mc = c1) (e2 : slots + ms = s1) (kk : ∀ (x : Int) (hp1 : HP) (_ : q x hp1) (H1 : Heap) (locs1 : List Loc), WH G hp1 H1 locs1 → W p l e (rmA dd mcR msR) s m args below meth c H1 locs1 c1 s1 Q (F0 m (pc + 3) ls (vI x :: rest))): W p l e (rmA dd mcR msR) s m args below meth c H locs cells slots Q (F0 m pc ls st0) := by
  subst e1; subst e2
  refine h_run (va_runU X.1 hMet cw ⟨h_blind, va_recv X.hK.1 (hW.1.one he) (ci := ci) (q0 := 0) ck.1 rfl, fun U hU hWm => ⟨rfl, X.hK.warm hWm, by rw [hU]; exact hW.1⟩⟩ rfl hn hl hst (lv_room hroom) hdg hcs) hW.2 (fun rv hp1 hz H1 locs1 hw => ?_)
  obtain ⟨x, rfl, hz⟩ := hz
  exact kk x hp1 hz H1 locs1 hw
theorem h_callFI {y0 : MethodName} {count : Nat} {dd d1 n maxL mc ms mcR msR : Nat} {y : MethodName} {bytes : ByteArray} {ry : Option FieldType} {As st0 : List Value} {q : Int → HP → Prop} (X : CX p s m args meth c cc nL own ret G) (hW : WH G hp H locs) {fs : List Value} (he : hp a = some (.inr (ci, fs))) (ck : CK ci C T N ty) (hMet : MH l y (ws_ y bytes maxL ry) d1 mc ms G (.ref a :: As) hp (pI q)) (cw : va_CI (rmA dd mcR msR) s args own C index y0 y bytes maxL ry (ws_ y bytes maxL ry) (rmA d1 mc ms) mc ms n) (hn : As.length = n) (hl : ls.size = nL) (hst : st0 = As.reverse ++ .ref a :: rest) (hroom : (rest.map fun v => v.category).sum ≤ 8) (hdg : decode cc pc = .ok (.invokeinterface index count, 5)) (hcs : cells + mc ≤ mcR ∧ slots + ms ≤ msR) (c1 s1 : Nat) (e1 : cells + mc = c1) (e2 : slots + ms = s1) (kk : ∀ (x : Int) (hp1 : HP) (_ : q x hp1) (H1 : Heap) (locs1 : List Loc), WH G hp1 H1 locs1 → W p l e (rmA dd mcR msR) s m args below meth c H1 locs1 c1 s1 Q (F0 m (pc + 5) ls (vI x :: rest))): W p l e (rmA dd mcR msR) s m args below meth c H locs cells slots Q (F0 m pc ls st0) := by
  subst e1; subst e2
  refine h_run5 (va_runF (X.hK.1.1 ci _ ck.1).2 X.1 hMet cw ⟨h_blind, va_recv X.hK.1 (hW.1.one he) (ci := ci) (q0 := 0) ck.1 rfl, fun U hU hWm => ⟨rfl, X.hK.warm hWm, by rw [hU]; exact hW.1⟩⟩ rfl hn hl hst (lv_room hroom) hdg hcs) hW.2 (fun rv hp1 hz H1 locs1 hw => ?_)
  obtain ⟨x, rfl, hz⟩ := hz
  exact kk x hp1 hz H1 locs1 hw
theorem h_callSI {dd d1 n maxL mc ms mcR msR : Nat} {y : MethodName} {bytes : ByteArray} {ry : Option FieldType} {As st0 : List Value} {q : Int → HP → Prop} (X : CX p s m args meth c cc nL own ret G) (hW : WH G hp H locs) (hMet : MH l y (ws_ y bytes maxL ry) d1 mc ms G As hp (pI q)) (cw : CallB (rmA dd mcR msR) s args own index y bytes maxL ry (ws_ y bytes maxL ry) (rmA d1 mc ms) mc ms n ∧ (Cond.static y).before args s = true) (hn : As.length = n) (hl : ls.size = nL) (hst : st0 = As.reverse ++ rest) (hroom : (rest.map fun v => v.category).sum ≤ 8) (hdg : decode cc pc = .ok (.invokestatic index, 3)) (hcs : cells + mc ≤ mcR ∧ slots + ms ≤ msR) (c1 s1 : Nat) (e1 : cells + mc = c1) (e2 : slots + ms = s1) (kk : ∀ (x : Int) (hp1 : HP) (_ : q x hp1) (H1 : Heap) (locs1 : List Loc), WH G hp1 H1 locs1 → W p l e (rmA dd mcR msR) s m args below meth c H1 locs1 c1 s1 Q (F0 m (pc + 3) ls (vI x :: rest))): W p l e (rmA dd mcR msR) s m args below meth c H locs cells slots Q (F0 m pc ls st0) := by
  subst e1; subst e2
  refine h_run (va_runS X.1 hMet cw ⟨h_blind, fun U hU hWm => ⟨rfl, X.hK.warm hWm, by rw [hU]; exact hW.1⟩⟩ rfl hn hl hst (lv_room hroom) hdg hcs) hW.2 (fun rv hp1 hz H1 locs1 hw => ?_)
  obtain ⟨x, rfl, hz⟩ := hz
  exact kk x hp1 hz H1 locs1 hw
theorem h_callVJ {dd d1 n maxL mc ms mcR msR : Nat} {y : MethodName} {bytes : ByteArray} {ry : Option FieldType} {As st0 : List Value} {q : Int → HP → Prop} (X : CX p s m args meth c cc nL own ret G) (hW : WH G hp H locs) {fs : List Value} (he : hp a = some (.inr (ci, fs))) (ck : CK ci C T N ty) (hMet : MH l y (ws_ y bytes maxL ry) d1 mc ms G (.ref a :: As) hp (pJ q)) (cw : CallW (rmA dd mcR msR) s args own C index y bytes maxL ry (ws_ y bytes maxL ry) (rmA d1 mc ms) mc ms n) (hn : As.length = n) (hl : ls.size = nL) (hst : st0 = As.reverse ++ .ref a :: rest) (hroom : (rest.map fun v => v.category).sum ≤ 8) (hdg : decode cc pc = .ok (.invokevirtual index, 3)) (hcs : cells + mc ≤ mcR ∧ slots + ms ≤ msR) (c1 s1 : Nat) (e1 : cells + mc = c1) (e2 : slots + ms = s1) (kk : ∀ (x : Int) (hp1 : HP) (_ : q x hp1) (H1 : Heap) (locs1 : List Loc), WH G hp1 H1 locs1 → W p l e (rmA dd mcR msR) s m args below meth c H1 locs1 c1 s1 Q (F0 m (pc + 3) ls (vL x :: rest))): W p l e (rmA dd mcR msR) s m args below meth c H locs cells slots Q (F0 m pc ls st0) := by
  subst e1; subst e2
  refine h_run (va_runV X.1 hMet cw ⟨h_blind, va_recv X.hK.1 (hW.1.one he) (ci := ci) (q0 := 0) ck.1 rfl, fun U hU hWm => ⟨rfl, X.hK.warm hWm, by rw [hU]; exact hW.1⟩⟩ rfl hn hl hst (lv_room hroom) hdg hcs) hW.2 (fun rv hp1 hz H1 locs1 hw => ?_)
  obtain ⟨x, rfl, hz⟩ := hz
  exact kk x hp1 hz H1 locs1 hw
theorem h_callUJ {owner : String} {y0 : MethodName} {dd d1 n maxL mc ms mcR msR : Nat} {y : MethodName} {bytes : ByteArray} {ry : Option FieldType} {As st0 : List Value} {q : Int → HP → Prop} (X : CX p s m args meth c cc nL own ret G) (hW : WH G hp H locs) {fs : List Value} (he : hp a = some (.inr (ci, fs))) (ck : CK ci C T N ty) (hMet : MH l y (ws_ y bytes maxL ry) d1 mc ms G (.ref a :: As) hp (pJ q)) (cw : va_CU (rmA dd mcR msR) s args own C owner index y0 y bytes maxL ry (ws_ y bytes maxL ry) (rmA d1 mc ms) mc ms n) (hn : As.length = n) (hl : ls.size = nL) (hst : st0 = As.reverse ++ .ref a :: rest) (hroom : (rest.map fun v => v.category).sum ≤ 8) (hdg : decode cc pc = .ok (.invokevirtual index, 3)) (hcs : cells + mc ≤ mcR ∧ slots + ms ≤ msR) (c1 s1 : Nat) (e1 : cells + mc = c1) (e2 : slots + ms = s1) (kk : ∀ (x : Int) (hp1 : HP) (_ : q x hp1) (H1 : Heap) (locs1 : List Loc), WH G hp1 H1 locs1 → W p l e (rmA dd mcR msR) s m args below meth c H1 locs1 c1 s1 Q (F0 m (pc + 3) ls (vL x :: rest))): W p l e (rmA dd mcR msR) s m args below meth c H locs cells slots Q (F0 m pc ls st0) := by
  subst e1; subst e2
  refine h_run (va_runU X.1 hMet cw ⟨h_blind, va_recv X.hK.1 (hW.1.one he) (ci := ci) (q0 := 0) ck.1 rfl, fun U hU hWm => ⟨rfl, X.hK.warm hWm, by rw [hU]; exact hW.1⟩⟩ rfl hn hl hst (lv_room hroom) hdg hcs) hW.2 (fun rv hp1 hz H1 locs1 hw => ?_)
  obtain ⟨x, rfl, hz⟩ := hz
  exact kk x hp1 hz H1 locs1 hw
theorem h_callFJ {y0 : MethodName} {count : Nat} {dd d1 n maxL mc ms mcR msR : Nat} {y : MethodName} {bytes : ByteArray} {ry : Option FieldType} {As st0 : List Value} {q : Int → HP → Prop} (X : CX p s m args meth c cc nL own ret G) (hW : WH G hp H locs) {fs : List Value} (he : hp a = some (.inr (ci, fs))) (ck : CK ci C T N ty) (hMet : MH l y (ws_ y bytes maxL ry) d1 mc ms G (.ref a :: As) hp (pJ q)) (cw : va_CI (rmA dd mcR msR) s args own C index y0 y bytes maxL ry (ws_ y bytes maxL ry) (rmA d1 mc ms) mc ms n) (hn : As.length = n) (hl : ls.size = nL) (hst : st0 = As.reverse ++ .ref a :: rest) (hroom : (rest.map fun v => v.category).sum ≤ 8) (hdg : decode cc pc = .ok (.invokeinterface index count, 5)) (hcs : cells + mc ≤ mcR ∧ slots + ms ≤ msR) (c1 s1 : Nat) (e1 : cells + mc = c1) (e2 : slots + ms = s1) (kk : ∀ (x : Int) (hp1 : HP) (_ : q x hp1) (H1 : Heap) (locs1 : List Loc), WH G hp1 H1 locs1 → W p l e (rmA dd mcR msR) s m args below meth c H1 locs1 c1 s1 Q (F0 m (pc + 5) ls (vL x :: rest))): W p l e (rmA dd mcR msR) s m args below meth c H locs cells slots Q (F0 m pc ls st0) := by
  subst e1; subst e2
  refine h_run5 (va_runF (X.hK.1.1 ci _ ck.1).2 X.1 hMet cw ⟨h_blind, va_recv X.hK.1 (hW.1.one he) (ci := ci) (q0 := 0) ck.1 rfl, fun U hU hWm => ⟨rfl, X.hK.warm hWm, by rw [hU]; exact hW.1⟩⟩ rfl hn hl hst (lv_room hroom) hdg hcs) hW.2 (fun rv hp1 hz H1 locs1 hw => ?_)
  obtain ⟨x, rfl, hz⟩ := hz
  exact kk x hp1 hz H1 locs1 hw
theorem h_callSJ {dd d1 n maxL mc ms mcR msR : Nat} {y : MethodName} {bytes : ByteArray} {ry : Option FieldType} {As st0 : List Value} {q : Int → HP → Prop} (X : CX p s m args meth c cc nL own ret G) (hW : WH G hp H locs) (hMet : MH l y (ws_ y bytes maxL ry) d1 mc ms G As hp (pJ q)) (cw : CallB (rmA dd mcR msR) s args own index y bytes maxL ry (ws_ y bytes maxL ry) (rmA d1 mc ms) mc ms n ∧ (Cond.static y).before args s = true) (hn : As.length = n) (hl : ls.size = nL) (hst : st0 = As.reverse ++ rest) (hroom : (rest.map fun v => v.category).sum ≤ 8) (hdg : decode cc pc = .ok (.invokestatic index, 3)) (hcs : cells + mc ≤ mcR ∧ slots + ms ≤ msR) (c1 s1 : Nat) (e1 : cells + mc = c1) (e2 : slots + ms = s1) (kk : ∀ (x : Int) (hp1 : HP) (_ : q x hp1) (H1 : Heap) (locs1 : List Loc), WH G hp1 H1 locs1 → W p l e (rmA dd mcR msR) s m args below meth c H1 locs1 c1 s1 Q (F0 m (pc + 3) ls (vL x :: rest))): W p l e (rmA dd mcR msR) s m args below meth c H locs cells slots Q (F0 m pc ls st0) := by
  subst e1; subst e2
  refine h_run (va_runS X.1 hMet cw ⟨h_blind, fun U hU hWm => ⟨rfl, X.hK.warm hWm, by rw [hU]; exact hW.1⟩⟩ rfl hn hl hst (lv_room hroom) hdg hcs) hW.2 (fun rv hp1 hz H1 locs1 hw => ?_)
  obtain ⟨x, rfl, hz⟩ := hz
  exact kk x hp1 hz H1 locs1 hw
theorem h_callVR {dd d1 n maxL mc ms mcR msR : Nat} {y : MethodName} {bytes : ByteArray} {ry : Option FieldType} {As st0 : List Value} {q : Option Nat → HP → Prop} (X : CX p s m args meth c cc nL own ret G) (hW : WH G hp H locs) {fs : List Value} (he : hp a = some (.inr (ci, fs))) (ck : CK ci C T N ty) (hMet : MH l y (ws_ y bytes maxL ry) d1 mc ms G (.ref a :: As) hp (pR q)) (cw : CallW (rmA dd mcR msR) s args own C index y bytes maxL ry (ws_ y bytes maxL ry) (rmA d1 mc ms) mc ms n) (hn : As.length = n) (hl : ls.size = nL) (hst : st0 = As.reverse ++ .ref a :: rest) (hroom : (rest.map fun v => v.category).sum ≤ 8) (hdg : decode cc pc = .ok (.invokevirtual index, 3)) (hcs : cells + mc ≤ mcR ∧ slots + ms ≤ msR) (c1 s1 : Nat) (e1 : cells + mc = c1) (e2 : slots + ms = s1) (kk : ∀ (x : Option Nat) (hp1 : HP) (_ : q x hp1) (H1 : Heap) (locs1 : List Loc), WH G hp1 H1 locs1 → W p l e (rmA dd mcR msR) s m args below meth c H1 locs1 c1 s1 Q (F0 m (pc + 3) ls (va_rf x :: rest))): W p l e (rmA dd mcR msR) s m args below meth c H locs cells slots Q (F0 m pc ls st0) := by
  subst e1; subst e2
  refine h_run (va_runV X.1 hMet cw ⟨h_blind, va_recv X.hK.1 (hW.1.one he) (ci := ci) (q0 := 0) ck.1 rfl, fun U hU hWm => ⟨rfl, X.hK.warm hWm, by rw [hU]; exact hW.1⟩⟩ rfl hn hl hst (lv_room hroom) hdg hcs) hW.2 (fun rv hp1 hz H1 locs1 hw => ?_)
  obtain ⟨x, rfl, hz⟩ := hz
  exact kk x hp1 hz H1 locs1 hw
theorem h_callUR {owner : String} {y0 : MethodName} {dd d1 n maxL mc ms mcR msR : Nat} {y : MethodName} {bytes : ByteArray} {ry : Option FieldType} {As st0 : List Value} {q : Option Nat → HP → Prop} (X : CX p s m args meth c cc nL own ret G) (hW : WH G hp H locs) {fs : List Value} (he : hp a = some (.inr (ci, fs))) (ck : CK ci C T N ty) (hMet : MH l y (ws_ y bytes maxL ry) d1 mc ms G (.ref a :: As) hp (pR q)) (cw : va_CU (rmA dd mcR msR) s args own C owner index y0 y bytes maxL ry (ws_ y bytes maxL ry) (rmA d1 mc ms) mc ms n) (hn : As.length = n) (hl : ls.size = nL) (hst : st0 = As.reverse ++ .ref a :: rest) (hroom : (rest.map fun v => v.category).sum ≤ 8) (hdg : decode cc pc = .ok (.invokevirtual index, 3)) (hcs : cells + mc ≤ mcR ∧ slots + ms ≤ msR) (c1 s1 : Nat) (e1 : cells + mc = c1) (e2 : slots + ms = s1) (kk : ∀ (x : Option Nat) (hp1 : HP) (_ : q x hp1) (H1 : Heap) (locs1 : List Loc), WH G hp1 H1 locs1 → W p l e (rmA dd mcR msR) s m args below meth c H1 locs1 c1 s1 Q (F0 m (pc + 3) ls (va_rf x :: rest))): W p l e (rmA dd mcR msR) s m args below meth c H locs cells slots Q (F0 m pc ls st0) := by
  subst e1; subst e2
  refine h_run (va_runU X.1 hMet cw ⟨h_blind, va_recv X.hK.1 (hW.1.one he) (ci := ci) (q0 := 0) ck.1 rfl, fun U hU hWm => ⟨rfl, X.hK.warm hWm, by rw [hU]; exact hW.1⟩⟩ rfl hn hl hst (lv_room hroom) hdg hcs) hW.2 (fun rv hp1 hz H1 locs1 hw => ?_)
  obtain ⟨x, rfl, hz⟩ := hz
  exact kk x hp1 hz H1 locs1 hw
theorem h_callFR {y0 : MethodName} {count : Nat} {dd d1 n maxL mc ms mcR msR : Nat} {y : MethodName} {bytes : ByteArray} {ry : Option FieldType} {As st0 : List Value} {q : Option Nat → HP → Prop} (X : CX p s m args meth c cc nL own ret G) (hW : WH G hp H locs) {fs : List Value} (he : hp a = some (.inr (ci, fs))) (ck : CK ci C T N ty) (hMet : MH l y (ws_ y bytes maxL ry) d1 mc ms G (.ref a :: As) hp (pR q)) (cw : va_CI (rmA dd mcR msR) s args own C index y0 y bytes maxL ry (ws_ y bytes maxL ry) (rmA d1 mc ms) mc ms n) (hn : As.length = n) (hl : ls.size = nL) (hst : st0 = As.reverse ++ .ref a :: rest) (hroom : (rest.map fun v => v.category).sum ≤ 8) (hdg : decode cc pc = .ok (.invokeinterface index count, 5)) (hcs : cells + mc ≤ mcR ∧ slots + ms ≤ msR) (c1 s1 : Nat) (e1 : cells + mc = c1) (e2 : slots + ms = s1) (kk : ∀ (x : Option Nat) (hp1 : HP) (_ : q x hp1) (H1 : Heap) (locs1 : List Loc), WH G hp1 H1 locs1 → W p l e (rmA dd mcR msR) s m args below meth c H1 locs1 c1 s1 Q (F0 m (pc + 5) ls (va_rf x :: rest))): W p l e (rmA dd mcR msR) s m args below meth c H locs cells slots Q (F0 m pc ls st0) := by
  subst e1; subst e2
  refine h_run5 (va_runF (X.hK.1.1 ci _ ck.1).2 X.1 hMet cw ⟨h_blind, va_recv X.hK.1 (hW.1.one he) (ci := ci) (q0 := 0) ck.1 rfl, fun U hU hWm => ⟨rfl, X.hK.warm hWm, by rw [hU]; exact hW.1⟩⟩ rfl hn hl hst (lv_room hroom) hdg hcs) hW.2 (fun rv hp1 hz H1 locs1 hw => ?_)
  obtain ⟨x, rfl, hz⟩ := hz
  exact kk x hp1 hz H1 locs1 hw
theorem h_callSR {dd d1 n maxL mc ms mcR msR : Nat} {y : MethodName} {bytes : ByteArray} {ry : Option FieldType} {As st0 : List Value} {q : Option Nat → HP → Prop} (X : CX p s m args meth c cc nL own ret G) (hW : WH G hp H locs) (hMet : MH l y (ws_ y bytes maxL ry) d1 mc ms G As hp (pR q)) (cw : CallB (rmA dd mcR msR) s args own index y bytes maxL ry (ws_ y bytes maxL ry) (rmA d1 mc ms) mc ms n ∧ (Cond.static y).before args s = true) (hn : As.length = n) (hl : ls.size = nL) (hst : st0 = As.reverse ++ rest) (hroom : (rest.map fun v => v.category).sum ≤ 8) (hdg : decode cc pc = .ok (.invokestatic index, 3)) (hcs : cells + mc ≤ mcR ∧ slots + ms ≤ msR) (c1 s1 : Nat) (e1 : cells + mc = c1) (e2 : slots + ms = s1) (kk : ∀ (x : Option Nat) (hp1 : HP) (_ : q x hp1) (H1 : Heap) (locs1 : List Loc), WH G hp1 H1 locs1 → W p l e (rmA dd mcR msR) s m args below meth c H1 locs1 c1 s1 Q (F0 m (pc + 3) ls (va_rf x :: rest))): W p l e (rmA dd mcR msR) s m args below meth c H locs cells slots Q (F0 m pc ls st0) := by
  subst e1; subst e2
  refine h_run (va_runS X.1 hMet cw ⟨h_blind, fun U hU hWm => ⟨rfl, X.hK.warm hWm, by rw [hU]; exact hW.1⟩⟩ rfl hn hl hst (lv_room hroom) hdg hcs) hW.2 (fun rv hp1 hz H1 locs1 hw => ?_)
  obtain ⟨x, rfl, hz⟩ := hz
  exact kk x hp1 hz H1 locs1 hw
theorem h_callI {dd d1 n maxL mc ms mcR msR : Nat} {y : MethodName} {bytes : ByteArray} {As st0 : List Value} {q : HP → Prop} (X : CX p s m args meth c cc nL own ret G) (hW : WH G hp H locs) (hMet : MH l y (ws_ y bytes maxL none) d1 mc ms G (.ref a :: As) hp (pV q)) (cw : CallB (rmA dd mcR msR) s args own index y bytes maxL none (ws_ y bytes maxL none) (rmA d1 mc ms) mc ms n ∧ y.name = "<init>" ∧ (Cond.instanceMethod y).before args s = true) (hn : As.length = n) (hl : ls.size = nL) (hst : st0 = As.reverse ++ .ref a :: rest) (hroom : (rest.map fun v => v.category).sum ≤ 8) (hdg : decode cc pc = .ok (.invokespecial index, 3)) (hcs : cells + mc ≤ mcR ∧ slots + ms ≤ msR) (c1 s1 : Nat) (e1 : cells + mc = c1) (e2 : slots + ms = s1) (kk : ∀ (hp1 : HP) (_ : q hp1) (H1 : Heap) (locs1 : List Loc), WH G hp1 H1 locs1 → W p l e (rmA dd mcR msR) s m args below meth c H1 locs1 c1 s1 Q (F0 m (pc + 3) ls rest)) : W p l e (rmA dd mcR msR) s m args below meth c H locs cells slots Q (F0 m pc ls st0) := by
  subst e1; subst e2
  refine h_run (va_runI X.1 hMet cw ⟨h_blind, fun U hU hWm => ⟨rfl, X.hK.warm hWm, by rw [hU]; exact hW.1⟩⟩ rfl hn hl hst (lv_room hroom) hdg hcs) hW.2 (fun rv hp1 hz H1 locs1 hw => ?_)
  obtain ⟨rfl, hz⟩ := hz
  exact kk hp1 hz H1 locs1 hw
theorem h_nn0 {r : Option Nat} {F : Nat → Prop} (hE : hNn r F) (kk : ∀ b : Nat, F b → W p l e R s m args below meth c H locs cells slots Q (F0 m pc ls (.ref b :: rest))) : W p l e R s m args below meth c H locs cells slots Q (F0 m pc ls (va_rf r :: rest)) := by
  obtain ⟨b, rfl, hF⟩ := hE
  exact kk b hF
theorem h_nn1 {r : Option Nat} {F : Nat → Prop} (hE : hNn r F) {z0 : Value} (kk : ∀ b : Nat, F b → W p l e R s m args below meth c H locs cells slots Q (F0 m pc ls (z0 :: .ref b :: rest))) : W p l e R s m args below meth c H locs cells slots Q (F0 m pc ls (z0 :: va_rf r :: rest)) := by
  obtain ⟨b, rfl, hF⟩ := hE
  exact kk b hF
theorem h_nn2 {r : Option Nat} {F : Nat → Prop} (hE : hNn r F) {z0 z1 : Value} (kk : ∀ b : Nat, F b → W p l e R s m args below meth c H locs cells slots Q (F0 m pc ls (z0 :: z1 :: .ref b :: rest))) : W p l e R s m args below meth c H locs cells slots Q (F0 m pc ls (z0 :: z1 :: va_rf r :: rest)) := by
  obtain ⟨b, rfl, hF⟩ := hE
  exact kk b hF
theorem h_nn3 {r : Option Nat} {F : Nat → Prop} (hE : hNn r F) {z0 z1 z2 : Value} (kk : ∀ b : Nat, F b → W p l e R s m args below meth c H locs cells slots Q (F0 m pc ls (z0 :: z1 :: z2 :: .ref b :: rest))) : W p l e R s m args below meth c H locs cells slots Q (F0 m pc ls (z0 :: z1 :: z2 :: va_rf r :: rest)) := by
  obtain ⟨b, rfl, hF⟩ := hE
  exact kk b hF
theorem h_nn4 {r : Option Nat} {F : Nat → Prop} (hE : hNn r F) {z0 z1 z2 z3 : Value} (kk : ∀ b : Nat, F b → W p l e R s m args below meth c H locs cells slots Q (F0 m pc ls (z0 :: z1 :: z2 :: z3 :: .ref b :: rest))) : W p l e R s m args below meth c H locs cells slots Q (F0 m pc ls (z0 :: z1 :: z2 :: z3 :: va_rf r :: rest)) := by
  obtain ⟨b, rfl, hF⟩ := hE
  exact kk b hF
theorem h_nn5 {r : Option Nat} {F : Nat → Prop} (hE : hNn r F) {z0 z1 z2 z3 z4 : Value} (kk : ∀ b : Nat, F b → W p l e R s m args below meth c H locs cells slots Q (F0 m pc ls (z0 :: z1 :: z2 :: z3 :: z4 :: .ref b :: rest))) : W p l e R s m args below meth c H locs cells slots Q (F0 m pc ls (z0 :: z1 :: z2 :: z3 :: z4 :: va_rf r :: rest)) := by
  obtain ⟨b, rfl, hF⟩ := hE
  exact kk b hF
theorem h_nn6 {r : Option Nat} {F : Nat → Prop} (hE : hNn r F) {z0 z1 z2 z3 z4 z5 : Value} (kk : ∀ b : Nat, F b → W p l e R s m args below meth c H locs cells slots Q (F0 m pc ls (z0 :: z1 :: z2 :: z3 :: z4 :: z5 :: .ref b :: rest))) : W p l e R s m args below meth c H locs cells slots Q (F0 m pc ls (z0 :: z1 :: z2 :: z3 :: z4 :: z5 :: va_rf r :: rest)) := by
  obtain ⟨b, rfl, hF⟩ := hE
  exact kk b hF
theorem h_tz {x : Int} {F : Prop} (hE : hZ x F) : narrow .boolean (vI x) = vI x ∧ F := ⟨(fit_Z hE.1).1, hE.2⟩
def df_X0 : List Value := [vI 0, va_rf none, va_rf none, va_rf none, va_rf none, vI 0, vI 0, vI 0, va_rf none, va_rf none, vI 0, vI 0, va_rf none, va_rf none, va_rf none, va_rf none, vI 0, vL 0, va_rf none, va_rf none, va_rf none, va_rf none, va_rf none, vI 0, vL 0, va_rf none, va_rf none, va_rf none, va_rf none, va_rf none, va_rf none, va_rf none]
theorem dflt_X0 : ∀ j, j < 32 → defaultValue (tyX0 j) = vp_V df_X0 j := fun j hj => match j, hj with
  | 0, _ => rfl
  | 1, _ => rfl
  | 2, _ => rfl
  | 3, _ => rfl
  | 4, _ => rfl
  | 5, _ => rfl
  | 6, _ => rfl
  | 7, _ => rfl
  | 8, _ => rfl
  | 9, _ => rfl
  | 10, _ => rfl
  | 11, _ => rfl
  | 12, _ => rfl
  | 13, _ => rfl
  | 14, _ => rfl
  | 15, _ => rfl
  | 16, _ => rfl
  | 17, _ => rfl
  | 18, _ => rfl
  | 19, _ => rfl
  | 20, _ => rfl
  | 21, _ => rfl
  | 22, _ => rfl
  | 23, _ => rfl
  | 24, _ => rfl
  | 25, _ => rfl
  | 26, _ => rfl
  | 27, _ => rfl
  | 28, _ => rfl
  | 29, _ => rfl
  | 30, _ => rfl
  | 31, _ => rfl
  | j + 32, hj => absurd hj (by omega)
def df_X1 : List Value := [va_rf none, va_rf none, va_rf none, va_rf none, va_rf none, va_rf none, va_rf none, va_rf none, va_rf none, va_rf none, va_rf none, va_rf none, vI 0, vI 0, vI 0, vL 0, va_rf none, va_rf none]
theorem dflt_X1 : ∀ j, j < 18 → defaultValue (tyX1 j) = vp_V df_X1 j := fun j hj => match j, hj with
  | 0, _ => rfl
  | 1, _ => rfl
  | 2, _ => rfl
  | 3, _ => rfl
  | 4, _ => rfl
  | 5, _ => rfl
  | 6, _ => rfl
  | 7, _ => rfl
  | 8, _ => rfl
  | 9, _ => rfl
  | 10, _ => rfl
  | 11, _ => rfl
  | 12, _ => rfl
  | 13, _ => rfl
  | 14, _ => rfl
  | 15, _ => rfl
  | 16, _ => rfl
  | 17, _ => rfl
  | j + 18, hj => absurd hj (by omega)
def df_X2 : List Value := [vI 0, vL 0, vL 0, vI 0, vI 0, vI 0]
theorem dflt_X2 : ∀ j, j < 6 → defaultValue (tyX2 j) = vp_V df_X2 j := fun j hj => match j, hj with
  | 0, _ => rfl
  | 1, _ => rfl
  | 2, _ => rfl
  | 3, _ => rfl
  | 4, _ => rfl
  | 5, _ => rfl
  | j + 6, hj => absurd hj (by omega)
def df_X3 : List Value := [va_rf none]
theorem dflt_X3 : ∀ j, j < 1 → defaultValue (tyX3 j) = vp_V df_X3 j := fun j hj => match j, hj with
  | 0, _ => rfl
  | j + 1, hj => absurd hj (by omega)
def df_X4 : List Value := [va_rf none]
theorem dflt_X4 : ∀ j, j < 1 → defaultValue (tyX4 j) = vp_V df_X4 j := fun j hj => match j, hj with
  | 0, _ => rfl
  | j + 1, hj => absurd hj (by omega)
def df_X5 : List Value := [va_rf none, va_rf none, va_rf none, va_rf none, vI 0, vI 0, va_rf none, va_rf none, vI 0, va_rf none, vI 0, va_rf none, va_rf none, va_rf none, va_rf none, va_rf none, va_rf none, va_rf none, va_rf none, vI 0, vI 0, va_rf none, va_rf none, va_rf none, vL 0, vI 0, va_rf none, va_rf none, vL 0, vI 0, va_rf none, va_rf none, va_rf none, va_rf none, va_rf none, vI 0, vL 0, va_rf none, vI 0, va_rf none]
theorem dflt_X5 : ∀ j, j < 40 → defaultValue (tyX5 j) = vp_V df_X5 j := fun j hj => match j, hj with
  | 0, _ => rfl
  | 1, _ => rfl
  | 2, _ => rfl
  | 3, _ => rfl
  | 4, _ => rfl
  | 5, _ => rfl
  | 6, _ => rfl
  | 7, _ => rfl
  | 8, _ => rfl
  | 9, _ => rfl
  | 10, _ => rfl
  | 11, _ => rfl
  | 12, _ => rfl
  | 13, _ => rfl
  | 14, _ => rfl
  | 15, _ => rfl
  | 16, _ => rfl
  | 17, _ => rfl
  | 18, _ => rfl
  | 19, _ => rfl
  | 20, _ => rfl
  | 21, _ => rfl
  | 22, _ => rfl
  | 23, _ => rfl
  | 24, _ => rfl
  | 25, _ => rfl
  | 26, _ => rfl
  | 27, _ => rfl
  | 28, _ => rfl
  | 29, _ => rfl
  | 30, _ => rfl
  | 31, _ => rfl
  | 32, _ => rfl
  | 33, _ => rfl
  | 34, _ => rfl
  | 35, _ => rfl
  | 36, _ => rfl
  | 37, _ => rfl
  | 38, _ => rfl
  | 39, _ => rfl
  | j + 40, hj => absurd hj (by omega)
def df_X6 : List Value := [va_rf none, va_rf none, vI 0, vI 0]
theorem dflt_X6 : ∀ j, j < 4 → defaultValue (tyX6 j) = vp_V df_X6 j := fun j hj => match j, hj with
  | 0, _ => rfl
  | 1, _ => rfl
  | 2, _ => rfl
  | 3, _ => rfl
  | j + 4, hj => absurd hj (by omega)
def df_X7 : List Value := [vI 0, vI 0, vI 0, vI 0, vL 0]
theorem dflt_X7 : ∀ j, j < 5 → defaultValue (tyX7 j) = vp_V df_X7 j := fun j hj => match j, hj with
  | 0, _ => rfl
  | 1, _ => rfl
  | 2, _ => rfl
  | 3, _ => rfl
  | 4, _ => rfl
  | j + 5, hj => absurd hj (by omega)
def df_X8 : List Value := [va_rf none, va_rf none, va_rf none, va_rf none, va_rf none, vI 0, vI 0]
theorem dflt_X8 : ∀ j, j < 7 → defaultValue (tyX8 j) = vp_V df_X8 j := fun j hj => match j, hj with
  | 0, _ => rfl
  | 1, _ => rfl
  | 2, _ => rfl
  | 3, _ => rfl
  | 4, _ => rfl
  | 5, _ => rfl
  | 6, _ => rfl
  | j + 7, hj => absurd hj (by omega)
def df_X9 : List Value := [vL 0]
theorem dflt_X9 : ∀ j, j < 1 → defaultValue (tyX9 j) = vp_V df_X9 j := fun j hj => match j, hj with
  | 0, _ => rfl
  | j + 1, hj => absurd hj (by omega)
def df_X10 : List Value := [va_rf none, vI 0]
theorem dflt_X10 : ∀ j, j < 2 → defaultValue (tyX10 j) = vp_V df_X10 j := fun j hj => match j, hj with
  | 0, _ => rfl
  | 1, _ => rfl
  | j + 2, hj => absurd hj (by omega)
def df_X11 : List Value := [va_rf none, vI 0, vI 0, vI 0, vI 0]
theorem dflt_X11 : ∀ j, j < 5 → defaultValue (tyX11 j) = vp_V df_X11 j := fun j hj => match j, hj with
  | 0, _ => rfl
  | 1, _ => rfl
  | 2, _ => rfl
  | 3, _ => rfl
  | 4, _ => rfl
  | j + 5, hj => absurd hj (by omega)
def df_J3 : List Value := [vI 0, vI 0, va_rf none, va_rf none]
theorem dflt_J3 : ∀ j, j < 4 → defaultValue (tyJ3 j) = vp_V df_J3 j := fun j hj => match j, hj with
  | 0, _ => rfl
  | 1, _ => rfl
  | 2, _ => rfl
  | 3, _ => rfl
  | j + 4, hj => absurd hj (by omega)
def df_J5 : List Value := [va_rf none, vI 0, va_rf none, vI 0]
theorem dflt_J5 : ∀ j, j < 4 → defaultValue (tyJ5 j) = vp_V df_J5 j := fun j hj => match j, hj with
  | 0, _ => rfl
  | 1, _ => rfl
  | 2, _ => rfl
  | 3, _ => rfl
  | j + 4, hj => absurd hj (by omega)
def df_J6 : List Value := [va_rf none, vI 0, vI 0]
theorem dflt_J6 : ∀ j, j < 3 → defaultValue (tyJ6 j) = vp_V df_J6 j := fun j hj => match j, hj with
  | 0, _ => rfl
  | 1, _ => rfl
  | 2, _ => rfl
  | j + 3, hj => absurd hj (by omega)
def df_J7 : List Value := [va_rf none, va_rf none, va_rf none, va_rf none, va_rf none]
theorem dflt_J7 : ∀ j, j < 5 → defaultValue (tyJ7 j) = vp_V df_J7 j := fun j hj => match j, hj with
  | 0, _ => rfl
  | 1, _ => rfl
  | 2, _ => rfl
  | 3, _ => rfl
  | 4, _ => rfl
  | j + 5, hj => absurd hj (by omega)
def df_J10 : List Value := [va_rf none, va_rf none, va_rf none, va_rf none, va_rf none, vI 0]
theorem dflt_J10 : ∀ j, j < 6 → defaultValue (tyJ10 j) = vp_V df_J10 j := fun j hj => match j, hj with
  | 0, _ => rfl
  | 1, _ => rfl
  | 2, _ => rfl
  | 3, _ => rfl
  | 4, _ => rfl
  | 5, _ => rfl
  | j + 6, hj => absurd hj (by omega)
def df_J12 : List Value := [va_rf none, vI 0, vI 0, vI 0]
theorem dflt_J12 : ∀ j, j < 4 → defaultValue (tyJ12 j) = vp_V df_J12 j := fun j hj => match j, hj with
  | 0, _ => rfl
  | 1, _ => rfl
  | 2, _ => rfl
  | 3, _ => rfl
  | j + 4, hj => absurd hj (by omega)
def df_J13 : List Value := [va_rf none, vI 0, vI 0, vI 0]
theorem dflt_J13 : ∀ j, j < 4 → defaultValue (tyJ13 j) = vp_V df_J13 j := fun j hj => match j, hj with
  | 0, _ => rfl
  | 1, _ => rfl
  | 2, _ => rfl
  | 3, _ => rfl
  | j + 4, hj => absurd hj (by omega)
def df_J21 : List Value := [vI 0]
theorem dflt_J21 : ∀ j, j < 1 → defaultValue (tyJ21 j) = vp_V df_J21 j := fun j hj => match j, hj with
  | 0, _ => rfl
  | j + 1, hj => absurd hj (by omega)
def df_J22 : List Value := [va_rf none, vI 0, vI 0]
theorem dflt_J22 : ∀ j, j < 3 → defaultValue (tyJ22 j) = vp_V df_J22 j := fun j hj => match j, hj with
  | 0, _ => rfl
  | 1, _ => rfl
  | 2, _ => rfl
  | j + 3, hj => absurd hj (by omega)
def df_J24 : List Value := [va_rf none, va_rf none, vI 0, vI 0, va_rf none]
theorem dflt_J24 : ∀ j, j < 5 → defaultValue (tyJ24 j) = vp_V df_J24 j := fun j hj => match j, hj with
  | 0, _ => rfl
  | 1, _ => rfl
  | 2, _ => rfl
  | 3, _ => rfl
  | 4, _ => rfl
  | j + 5, hj => absurd hj (by omega)
def df_J25 : List Value := [va_rf none, va_rf none, va_rf none, va_rf none, va_rf none, vI 0]
theorem dflt_J25 : ∀ j, j < 6 → defaultValue (tyJ25 j) = vp_V df_J25 j := fun j hj => match j, hj with
  | 0, _ => rfl
  | 1, _ => rfl
  | 2, _ => rfl
  | 3, _ => rfl
  | 4, _ => rfl
  | 5, _ => rfl
  | j + 6, hj => absurd hj (by omega)
def df_J28 : List Value := [va_rf none, va_rf none, va_rf none, va_rf none, vI 0, vI 0, va_rf none, va_rf none, va_rf none]
theorem dflt_J28 : ∀ j, j < 9 → defaultValue (tyJ28 j) = vp_V df_J28 j := fun j hj => match j, hj with
  | 0, _ => rfl
  | 1, _ => rfl
  | 2, _ => rfl
  | 3, _ => rfl
  | 4, _ => rfl
  | 5, _ => rfl
  | 6, _ => rfl
  | 7, _ => rfl
  | 8, _ => rfl
  | j + 9, hj => absurd hj (by omega)
def df_J31 : List Value := [va_rf none, va_rf none, va_rf none, va_rf none, va_rf none, vI 0, vI 0, va_rf none]
theorem dflt_J31 : ∀ j, j < 8 → defaultValue (tyJ31 j) = vp_V df_J31 j := fun j hj => match j, hj with
  | 0, _ => rfl
  | 1, _ => rfl
  | 2, _ => rfl
  | 3, _ => rfl
  | 4, _ => rfl
  | 5, _ => rfl
  | 6, _ => rfl
  | 7, _ => rfl
  | j + 8, hj => absurd hj (by omega)
def df_J34 : List Value := [va_rf none, va_rf none]
theorem dflt_J34 : ∀ j, j < 2 → defaultValue (tyJ34 j) = vp_V df_J34 j := fun j hj => match j, hj with
  | 0, _ => rfl
  | 1, _ => rfl
  | j + 2, hj => absurd hj (by omega)
def df_J35 : List Value := [va_rf none, vI 0]
theorem dflt_J35 : ∀ j, j < 2 → defaultValue (tyJ35 j) = vp_V df_J35 j := fun j hj => match j, hj with
  | 0, _ => rfl
  | 1, _ => rfl
  | j + 2, hj => absurd hj (by omega)
def df_J36 : List Value := [va_rf none, va_rf none, va_rf none]
theorem dflt_J36 : ∀ j, j < 3 → defaultValue (tyJ36 j) = vp_V df_J36 j := fun j hj => match j, hj with
  | 0, _ => rfl
  | 1, _ => rfl
  | 2, _ => rfl
  | j + 3, hj => absurd hj (by omega)
def df_J37 : List Value := [va_rf none, va_rf none, va_rf none, va_rf none, va_rf none, vI 0]
theorem dflt_J37 : ∀ j, j < 6 → defaultValue (tyJ37 j) = vp_V df_J37 j := fun j hj => match j, hj with
  | 0, _ => rfl
  | 1, _ => rfl
  | 2, _ => rfl
  | 3, _ => rfl
  | 4, _ => rfl
  | 5, _ => rfl
  | j + 6, hj => absurd hj (by omega)
def df_J38 : List Value := [va_rf none, va_rf none, va_rf none, va_rf none, va_rf none, vI 0]
theorem dflt_J38 : ∀ j, j < 6 → defaultValue (tyJ38 j) = vp_V df_J38 j := fun j hj => match j, hj with
  | 0, _ => rfl
  | 1, _ => rfl
  | 2, _ => rfl
  | 3, _ => rfl
  | 4, _ => rfl
  | 5, _ => rfl
  | j + 6, hj => absurd hj (by omega)
def df_J41 : List Value := [va_rf none, va_rf none, va_rf none, va_rf none, vI 0, va_rf none]
theorem dflt_J41 : ∀ j, j < 6 → defaultValue (tyJ41 j) = vp_V df_J41 j := fun j hj => match j, hj with
  | 0, _ => rfl
  | 1, _ => rfl
  | 2, _ => rfl
  | 3, _ => rfl
  | 4, _ => rfl
  | 5, _ => rfl
  | j + 6, hj => absurd hj (by omega)
def df_J43 : List Value := [va_rf none]
theorem dflt_J43 : ∀ j, j < 1 → defaultValue (tyJ43 j) = vp_V df_J43 j := fun j hj => match j, hj with
  | 0, _ => rfl
  | j + 1, hj => absurd hj (by omega)
def df_J44 : List Value := [va_rf none, va_rf none, va_rf none, va_rf none, va_rf none, vI 0]
theorem dflt_J44 : ∀ j, j < 6 → defaultValue (tyJ44 j) = vp_V df_J44 j := fun j hj => match j, hj with
  | 0, _ => rfl
  | 1, _ => rfl
  | 2, _ => rfl
  | 3, _ => rfl
  | 4, _ => rfl
  | 5, _ => rfl
  | j + 6, hj => absurd hj (by omega)
def df_J45 : List Value := [va_rf none]
theorem dflt_J45 : ∀ j, j < 1 → defaultValue (tyJ45 j) = vp_V df_J45 j := fun j hj => match j, hj with
  | 0, _ => rfl
  | j + 1, hj => absurd hj (by omega)
def df_J47 : List Value := [va_rf none, va_rf none, vI 0, va_rf none]
theorem dflt_J47 : ∀ j, j < 4 → defaultValue (tyJ47 j) = vp_V df_J47 j := fun j hj => match j, hj with
  | 0, _ => rfl
  | 1, _ => rfl
  | 2, _ => rfl
  | 3, _ => rfl
  | j + 4, hj => absurd hj (by omega)
def df_J48 : List Value := [va_rf none]
theorem dflt_J48 : ∀ j, j < 1 → defaultValue (tyJ48 j) = vp_V df_J48 j := fun j hj => match j, hj with
  | 0, _ => rfl
  | j + 1, hj => absurd hj (by omega)
def df_J49 : List Value := [vI 0, vI 0, vI 0, va_rf none]
theorem dflt_J49 : ∀ j, j < 4 → defaultValue (tyJ49 j) = vp_V df_J49 j := fun j hj => match j, hj with
  | 0, _ => rfl
  | 1, _ => rfl
  | 2, _ => rfl
  | 3, _ => rfl
  | j + 4, hj => absurd hj (by omega)
def df_J50 : List Value := [va_rf none, vI 0, vI 0, vI 0]
theorem dflt_J50 : ∀ j, j < 4 → defaultValue (tyJ50 j) = vp_V df_J50 j := fun j hj => match j, hj with
  | 0, _ => rfl
  | 1, _ => rfl
  | 2, _ => rfl
  | 3, _ => rfl
  | j + 4, hj => absurd hj (by omega)
def df_J51 : List Value := [vI 0, vI 0, va_rf none, va_rf none, vI 0, va_rf none]
theorem dflt_J51 : ∀ j, j < 6 → defaultValue (tyJ51 j) = vp_V df_J51 j := fun j hj => match j, hj with
  | 0, _ => rfl
  | 1, _ => rfl
  | 2, _ => rfl
  | 3, _ => rfl
  | 4, _ => rfl
  | 5, _ => rfl
  | j + 6, hj => absurd hj (by omega)
def df_J52 : List Value := [va_rf none, va_rf none, vI 0, va_rf none]
theorem dflt_J52 : ∀ j, j < 4 → defaultValue (tyJ52 j) = vp_V df_J52 j := fun j hj => match j, hj with
  | 0, _ => rfl
  | 1, _ => rfl
  | 2, _ => rfl
  | 3, _ => rfl
  | j + 4, hj => absurd hj (by omega)
def df_J54 : List Value := [va_rf none, va_rf none, va_rf none, va_rf none, vI 0, va_rf none]
theorem dflt_J54 : ∀ j, j < 6 → defaultValue (tyJ54 j) = vp_V df_J54 j := fun j hj => match j, hj with
  | 0, _ => rfl
  | 1, _ => rfl
  | 2, _ => rfl
  | 3, _ => rfl
  | 4, _ => rfl
  | 5, _ => rfl
  | j + 6, hj => absurd hj (by omega)
theorem cxH {dd mcR msR d1 mc ms maxL : Nat} (h : d1 + 1 ≤ dd) (h2 : maxL ≤ 29) : (rmA d1 mc ms).frames + 1 ≤ (rmA dd mcR msR).frames ∧ 8 + (maxL + 11) + (rmA d1 mc ms).locals ≤ (rmA dd mcR msR).locals := ⟨h, by show 8 + (maxL + 11) + 48 * d1 ≤ 48 * dd; omega⟩
theorem h_objInit {dd mcR msR : Nat} (X : CX p s m args meth c cc nL own ret G) (hl : ls.size = nL) (hq : Cond.methodLink own index Lib.objectInit ∈ lw_all) (hroom : (rest.map fun v => v.category).sum ≤ 8) (hdg : decode cc pc = .ok (.invokespecial index, 3)) (q2 : Cond.instanceMethod Lib.objectInit ∈ lw_all) (q3 : Cond.code Lib.objectInit ⟨#[0xb1]⟩ 1 none ∈ lw_all) (hd : 1 ≤ dd) (kk : W p l e (rmA dd mcR msR) s m args below meth c H locs cells slots Q (F0 m (pc + 3) ls rest)) : W p l e (rmA dd mcR msR) s m args below meth c H locs cells slots Q (F0 m pc ls (.ref a :: rest)) :=
  W.objInit X.hx X.hb X.ho (X.ht _ hq) (X.ht _ q2) (X.ht _ q3) rfl (hl.trans X.1.2.2.1.symm) rfl hdg (by show 1 ≤ dd; exact hd) (by have h0 : (F0 m pc ls (.ref a :: rest)).monitorRoom = 0 := rfl; rw [h0]; show 2 * 0 + _ + 12 ≤ 48 * dd; omega) kk
theorem cwH_U (X : CX p s m args meth c cc nL own ret G) {C owner : String} {x y : MethodName} {bytes : ByteArray} {maxL dd mcR msR d1 mc ms : Nat} {ry : Option FieldType} (n : Nat) (q1 : Cond.methodLink own index x ∈ lw_all) (q2 : Cond.sameMethod x.cls owner x.name x.desc ∈ lw_all) (q3 : Cond.selects C x y ∈ lw_all) (q4 : Cond.instanceMethod y ∈ lw_all) (q5 : Cond.initialized y.cls ∈ lw_all) (q6 : Cond.code y bytes maxL ry ∈ lw_all) (hz : Cond.declares ⟨owner, x.name, x.desc⟩ ∈ lw_tbl) (hd : owner ≠ "java/lang/invoke/MethodHandle" ∧ owner ≠ "java/lang/invoke/VarHandle" ∧ (parseMethodDescriptor x.desc).map (fun d => d.parameters.length) = some n) (h : d1 + 1 ≤ dd) (h2 : maxL ≤ 29) : va_CU (rmA dd mcR msR) s args own C owner index x y bytes maxL ry (ws_ y bytes maxL ry) (rmA d1 mc ms) mc ms n := by
  refine va_cwA n X.ht (lw_app ?_ (lw_meth q6)) rfl rfl rfl (X.hN hz rfl) hd (cxH h h2)
  intro w hw
  simp only [List.mem_cons, List.not_mem_nil, or_false] at hw
  rcases hw with e | e | e | e | e
  · rw [e]; exact q1
  · rw [e]; exact q2
  · rw [e]; exact q3
  · rw [e]; exact q4
  · rw [e]; exact q5
theorem cwH_F (X : CX p s m args meth c cc nL own ret G) {C : String} {x y : MethodName} {bytes : ByteArray} {maxL dd mcR msR d1 mc ms : Nat} {ry : Option FieldType} (n : Nat) (q1 : Cond.methodLink own index x ∈ lw_all) (q3 : Cond.selects C x y ∈ lw_all) (q4 : Cond.instanceMethod y ∈ lw_all) (q5 : Cond.initialized y.cls ∈ lw_all) (q6 : Cond.code y bytes maxL ry ∈ lw_all) (hf : (C, x, y) ∈ FWL) (hd : x.cls ≠ "java/lang/invoke/MethodHandle" ∧ x.cls ≠ "java/lang/invoke/VarHandle" ∧ (parseMethodDescriptor x.desc).map (fun d => d.parameters.length) = some n) (h : d1 + 1 ≤ dd) (h2 : maxL ≤ 29) : va_CI (rmA dd mcR msR) s args own C index x y bytes maxL ry (ws_ y bytes maxL ry) (rmA d1 mc ms) mc ms n := by
  refine va_cwF n X.ht (lw_app ?_ (lw_meth q6)) rfl rfl rfl (X.hK.2.2.1 _ hf) hd (cxH h h2)
  intro w hw
  simp only [List.mem_cons, List.not_mem_nil, or_false] at hw
  rcases hw with e | e | e | e
  · rw [e]; exact q1
  · rw [e]; exact q3
  · rw [e]; exact q4
  · rw [e]; exact q5
end HRS
