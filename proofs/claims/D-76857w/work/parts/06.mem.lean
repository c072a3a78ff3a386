/-! 06 MEMORY: fields and arrays over the abstract heap, then over record worlds; calls of record methods -/
set_option maxRecDepth 100000
-- ---------- record worlds: cell c is an array (element kind, length) or an object (class, fields: kind 0 int, 1 long, 2 reference to cell j, 3 a coded reference)
abbrev rw_C : Type := (Nat × Nat) ⊕ (Nat × List (Nat × Nat))
abbrev rw_D : Type := Nat → Option rw_C
abbrev RM : Type := Nat → Nat → Int
def up2 (M : RM) (c j : Nat) (x : Int) : RM := fun a b => if a = c then (if b = j then x else M a b) else M a b
theorem up2_s (M : RM) (c j : Nat) (x : Int) : up2 M c j x c j = x := by simp [up2]
theorem up2_c {M : RM} {c j a b : Nat} {x : Int} (h : a ≠ c) : up2 M c j x a b = M a b := by simp [up2, h]
theorem up2_j {M : RM} {c j a b : Nat} {x : Int} (h : b ≠ j) : up2 M c j x a b = M a b := by simp [up2, h]
def rfo (ad : Nat → Nat) (r : Int) : Option Nat := if r < 0 then none else some (ad r.toNat)
/-- a raw reference: address + 1, 0 for null -/
def rfw (r : Int) : Option Nat := if r ≤ 0 then none else some (r - 1).toNat
def rwv (ad : Nat → Nat) (x : Int) (q : Nat × Nat) : Value := match q.1 with
  | 0 => vI x
  | 1 => vL x
  | 2 => .ref (ad q.2)
  | 3 => va_rf (rfo ad x)
  | _ => va_rf (rfw x)
def rwa (ad : Nat → Nat) (t : Nat) (f : Nat → Int) : (Nat → Int32) ⊕ (Nat → Int64) ⊕ (Nat → UInt32) ⊕ (Nat → UInt64) ⊕ (Nat → Option Nat) := match t with
  | 0 => .inl (fun j => Int32.ofInt (f j))
  | 1 => .inr (.inl (fun j => Int64.ofInt (f j)))
  | 2 => .inl (fun j => Int32.ofInt (f j))
  | 3 => .inl (fun j => Int32.ofInt (f j))
  | 4 => .inr (.inr (.inr (.inr (fun j => rfo ad (f j)))))
  | 5 => .inr (.inr (.inr (.inr (fun j => rfo ad (f j)))))
  | _ => .inr (.inr (.inr (.inr (fun j => rfw (f j)))))
def rwc (G : GG) (ad : Nat → Nat) (f : Nat → Int) (q : rw_C) : va_E := match q with
  | .inl (t, n) => .inl (G.2.1 (t % 10), (n, rwa ad t f))
  | .inr (ci, fds) => .inr (ci, fds.mapIdx (fun k kd => rwv ad (f k) kd))
def RP (G : GG) (D : rw_D) (ad : Nat → Nat) (M : RM) (hp : HP) : Prop := (∀ (c : Nat) (q : rw_C), D c = some q → hp (ad c) = some (rwc G ad (M c) q)) ∧ ∀ i j : Nat, D i ≠ none → D j ≠ none → ad i = ad j → i = j
def Fr (D : rw_D) (ad : Nat → Nat) (hp0 hp : HP) : Prop := ∀ a : Nat, (∀ c : Nat, D c ≠ none → a ≠ ad c) → hp a = hp0 a
def RWh (G : GG) (D : rw_D) (ad : Nat → Nat) (hp0 : HP) (M : RM) (H : Heap) : Prop := ∃ hp : HP, WR G hp H ∧ RP G D ad M hp ∧ Fr D ad hp0 hp
def RW (G : GG) (D : rw_D) (ad : Nat → Nat) (hp0 : HP) (M : RM) (H : Heap) (locs : List Loc) : Prop := RWh G D ad hp0 M H ∧ LO G locs
theorem RW_up {G : GG} {D : rw_D} {ad : Nat → Nat} {hp0 hp : HP} {M : RM} {H1 : Heap} {locs1 : List Loc} {c k : Nat} {x : Int} {q : rw_C} {e1 : va_E} (hd : D c = some q) (hP : RP G D ad M hp) (hF : Fr D ad hp0 hp) (he : e1 = rwc G ad (up2 M c k x c) q) (hW : WR G (hup hp (ad c) e1) H1) (hL : LO G locs1) : RW G D ad hp0 (up2 M c k x) H1 locs1 := by
  refine ⟨⟨_, hW, ⟨fun c' q' hd' => ?_, hP.2⟩, fun a ha => ?_⟩, hL⟩
  · by_cases h : c' = c
    · subst h
      rw [hd] at hd'
      cases hd'
      simp only [hup, if_true]
      rw [he]
    · have hne : ad c' ≠ ad c := fun g => h (hP.2 c' c (by rw [hd']; exact fun z => by cases z) (by rw [hd]; exact fun z => by cases z) g)
      simp only [hup, if_neg hne]
      rw [hP.1 c' q' hd']
      have : up2 M c k x c' = M c' := by funext b; exact up2_c h
      rw [this]
  · have hne : a ≠ ad c := ha c (by rw [hd]; exact fun z => by cases z)
    simp only [hup, if_neg hne]
    exact hF a ha
def gA (n : Nat) (M : RM) (c : Nat) (i : Int) : Option Int := if 0 ≤ i ∧ i < n then some (M c i.toNat) else none
def sA (n : Nat) (M : RM) (c : Nat) (i x : Int) : Option RM := if 0 ≤ i ∧ i < n then some (up2 M c i.toNat x) else none
def sZ (n : Nat) (M : RM) (c : Nat) (i x : Int) : Option RM := if (0 ≤ i ∧ i < n) ∧ (x = 0 ∨ x = 1) then some (up2 M c i.toNat x) else none
def tz (x : Int) : Option Int := if x = 0 ∨ x = 1 then some x else none
theorem gA_some {n : Nat} {M : RM} {c : Nat} {i v : Int} (h : gA n M c i = some v) : (0 ≤ i ∧ i < n) ∧ v = M c i.toNat := by
  unfold gA at h
  by_cases g : 0 ≤ i ∧ i < n
  · rw [if_pos g] at h; cases h; exact ⟨g, rfl⟩
  · rw [if_neg g] at h; cases h
theorem sA_some {n : Nat} {M M' : RM} {c : Nat} {i x : Int} (h : sA n M c i x = some M') : (0 ≤ i ∧ i < n) ∧ M' = up2 M c i.toNat x := by
  unfold sA at h
  by_cases g : 0 ≤ i ∧ i < n
  · rw [if_pos g] at h; cases h; exact ⟨g, rfl⟩
  · rw [if_neg g] at h; cases h
theorem sZ_some {n : Nat} {M M' : RM} {c : Nat} {i x : Int} (h : sZ n M c i x = some M') : ((0 ≤ i ∧ i < n) ∧ (x = 0 ∨ x = 1)) ∧ M' = up2 M c i.toNat x := by
  unfold sZ at h
  by_cases g : (0 ≤ i ∧ i < n) ∧ (x = 0 ∨ x = 1)
  · rw [if_pos g] at h; cases h; exact ⟨g, rfl⟩
  · rw [if_neg g] at h; cases h
theorem tz_some {x v : Int} (h : tz x = some v) : (x = 0 ∨ x = 1) ∧ v = x := by
  unfold tz at h
  by_cases g : x = 0 ∨ x = 1
  · rw [if_pos g] at h; cases h; exact ⟨g, rfl⟩
  · rw [if_neg g] at h; cases h
section HWS
variable {p : Program} {l : Launch} {e : Env} {R : Room} {s : State} {m : MethodId} {args : Array Value} {below : List Frame} {meth : Method} {c : Code} {H : Heap} {locs : List Loc} {cells slots : Nat} {Q : State → Prop} {cc : ByteArray} {nL : Nat} {own : String} {ret : Option FieldType} {G : GG} {pc : Nat} {ls : Array Slot} {rest : List Value} {α : Type} {out : α} {hp : HP} {C : String} {T : u_T} {N ci : Nat} {ty : Nat → FieldType} {a : Nat} {fs : List Value} {index : Nat} {ref : String}
theorem hw_get (X : CX p s m args meth c cc nL own ret G) (hW : WR G hp H) (ck : CK ci C T N ty) (he : hp a = some (.inr (ci, fs))) (k : Nat) (hk : k < N) (hq : Cond.fieldLink own index ref (T k).2.1 (T k).2.2.1 ∈ lw_all) (hs : (T k).1 = ref) {v : Value} (hv : fs[k]? = some v) (hdg : decode cc pc = .ok (.getfield index, 3)) (kk : W p l e R s m args below meth c H locs cells slots Q (F0 m (pc + 3) ls (v :: rest))) : W p l e R s m args below meth c H locs cells slots Q (F0 m pc ls (.ref a :: rest)) := va_get X.hx X.hb X.ht ck.2.1 X.ho X.hK.1 (hW.one he) 0 rfl ck.1 k hk (X.ht _ hq) (by rw [hs]; exact fun _ h => h) hv hdg kk
theorem hw_put (X : CX p s m args meth c cc nL own ret G) (hW : WR G hp H) (hL : LO G locs) (ck : CK ci C T N ty) (he : hp a = some (.inr (ci, fs))) (k : Nat) (hk : k < N) (hq : Cond.fieldLink own index ref (T k).2.1 (T k).2.2.1 ∈ lw_all) (hs : (T k).1 = ref) (hfin : (T k).2.2.2 = false) {tv : FieldType} {v : Value} (hd : parseFieldDescriptor (T k).2.2.1 = some tv) (hn : narrow tv v = v) (hfit : fits tv v = true) (hl : k < fs.length) (hdg : decode cc pc = .ok (.putfield index, 3)) (kk : ∀ (H1 : Heap) (locs1 : List Loc), WR G (hup hp a (.inr (ci, fs.set k v))) H1 → LO G locs1 → W p l e R s m args below meth c H1 locs1 cells slots Q (F0 m (pc + 3) ls rest)) : W p l e R s m args below meth c H locs cells slots Q (F0 m pc ls (v :: .ref a :: rest)) := by
  obtain ⟨q0, h0⟩ := lst_at he (hW.lt he)
  refine va_put X.hx X.hb X.ht ck.2.1 ty ck.2.2.1 ck.2.2.2 X.ho X.hK.1 hW.P hW.D (hW.S hL) q0 h0 ck.1 k hk (X.ht _ hq) (by rw [hs]; exact fun _ h => h) hfin hd hn hfit hl hdg (fun H1 locs1 hP _ hS => ?_)
  obtain ⟨g1, g2⟩ := hW.set h0 hP hS
  exact kk H1 locs1 g1 g2
theorem hw_putF (X : CX p s m args meth c cc nL own ret G) (hW : WR G hp H) (hL : LO G locs) (ck : CK ci C T N ty) (he : hp a = some (.inr (ci, fs))) (k : Nat) (hk : k < N) (hq : Cond.fieldLink own index ref (T k).2.1 (T k).2.2.1 ∈ lw_all) (hs : (T k).1 = ref) (hfin : (T k).2.2.2 = true) (hin2 : meth.name = "<init>") (hdecl : (T k).1 = own) {tv : FieldType} {v : Value} (hd : parseFieldDescriptor (T k).2.2.1 = some tv) (hn : narrow tv v = v) (hfit : fits tv v = true) (hl : k < fs.length) (hdg : decode cc pc = .ok (.putfield index, 3)) (kk : ∀ (H1 : Heap) (locs1 : List Loc), WR G (hup hp a (.inr (ci, fs.set k v))) H1 → LO G locs1 → W p l e R s m args below meth c H1 locs1 cells slots Q (F0 m (pc + 3) ls rest)) : W p l e R s m args below meth c H locs cells slots Q (F0 m pc ls (v :: .ref a :: rest)) := by
  obtain ⟨q0, h0⟩ := lst_at he (hW.lt he)
  refine va_putF X.hx X.hb X.ht ck.2.1 ty ck.2.2.1 ck.2.2.2 X.ho X.hK.1 hW.P hW.D (hW.S hL) q0 h0 ck.1 k hk (X.ht _ hq) (by rw [hs]; exact fun _ h => h) hfin hin2 hdecl hd hn hfit hl hdg (fun H1 locs1 hP _ hS => ?_)
  obtain ⟨g1, g2⟩ := hW.set h0 hP hS
  exact kk H1 locs1 g1 g2
theorem hw_iald (X : CX p s m args meth c cc nL own ret G) (hW : WR G hp H) {n : Nat} {f : Nat → Int32} (he : hp a = some (.inl (G.2.1 0, n, .inl f))) {i : Int32} (hin : vp_in i n) (hdg : decode cc pc = .ok (.iaload, 1)) (kk : W p l e R s m args below meth c H locs cells slots Q (F0 m (pc + 1) ls (.int (f i.toNatClampNeg) :: rest))) : W p l e R s m args below meth c H locs cells slots Q (F0 m pc ls (.int i :: .ref a :: rest)) := va_iald X.hx X.hb X.hK.1 (hW.one he) 0 0 rfl rfl hin hdg kk
theorem hw_lald (X : CX p s m args meth c cc nL own ret G) (hW : WR G hp H) {n : Nat} {f : Nat → Int64} (he : hp a = some (.inl (G.2.1 1, n, .inr (.inl f)))) {i : Int32} (hin : vp_in i n) (hdg : decode cc pc = .ok (.laload, 1)) (kk : W p l e R s m args below meth c H locs cells slots Q (F0 m (pc + 1) ls (.long (f i.toNatClampNeg) :: rest))) : W p l e R s m args below meth c H locs cells slots Q (F0 m pc ls (.int i :: .ref a :: rest)) := va_lald X.hx X.hb X.hK.1 (hW.one he) 0 1 rfl rfl hin hdg kk
theorem hw_zald (X : CX p s m args meth c cc nL own ret G) (hW : WR G hp H) {n : Nat} {f : Nat → Int32} (he : hp a = some (.inl (G.2.1 2, n, .inl f))) {i : Int32} (hin : vp_in i n) (hdg : decode cc pc = .ok (.baload, 1)) (kk : W p l e R s m args below meth c H locs cells slots Q (F0 m (pc + 1) ls (.int (f i.toNatClampNeg) :: rest))) : W p l e R s m args below meth c H locs cells slots Q (F0 m pc ls (.int i :: .ref a :: rest)) := va_zald X.hx X.hb X.hK.1 (hW.one he) 0 2 rfl rfl hin hdg kk
theorem hw_bald (X : CX p s m args meth c cc nL own ret G) (hW : WR G hp H) {n : Nat} {f : Nat → Int32} (he : hp a = some (.inl (G.2.1 3, n, .inl f))) {i : Int32} (hin : vp_in i n) (hdg : decode cc pc = .ok (.baload, 1)) (kk : W p l e R s m args below meth c H locs cells slots Q (F0 m (pc + 1) ls (.int (f i.toNatClampNeg) :: rest))) : W p l e R s m args below meth c H locs cells slots Q (F0 m pc ls (.int i :: .ref a :: rest)) := va_bald X.hx X.hb X.hK.1 (hW.one he) 0 3 rfl rfl hin hdg kk
theorem hw_iast (X : CX p s m args meth c cc nL own ret G) (hW : WR G hp H) (hL : LO G locs) {n : Nat} {f : Nat → Int32} (he : hp a = some (.inl (G.2.1 0, n, .inl f))) {i : Int32} {x : Int32} (hin : vp_in i n) (hdg : decode cc pc = .ok (.iastore, 1)) (kk : ∀ (H1 : Heap) (locs1 : List Loc), WR G (hup hp a (.inl (G.2.1 0, n, .inl (upd f i.toNatClampNeg x)))) H1 → LO G locs1 → W p l e R s m args below meth c H1 locs1 cells slots Q (F0 m (pc + 1) ls rest)) : W p l e R s m args below meth c H locs cells slots Q (F0 m pc ls (.int x :: .int i :: .ref a :: rest)) := by
  obtain ⟨q0, h0⟩ := lst_at he (hW.lt he)
  refine va_iast X.hx X.hb X.hK.1 hW.P hW.D (hW.S hL) q0 0 h0 rfl hin hdg (fun H1 locs1 hP _ hS => ?_)
  obtain ⟨g1, g2⟩ := hW.set h0 hP hS
  exact kk H1 locs1 g1 g2
theorem hw_last (X : CX p s m args meth c cc nL own ret G) (hW : WR G hp H) (hL : LO G locs) {n : Nat} {f : Nat → Int64} (he : hp a = some (.inl (G.2.1 1, n, .inr <| .inl f))) {i : Int32} {x : Int64} (hin : vp_in i n) (hdg : decode cc pc = .ok (.lastore, 1)) (kk : ∀ (H1 : Heap) (locs1 : List Loc), WR G (hup hp a (.inl (G.2.1 1, n, .inr <| .inl (vp_updL f i.toNatClampNeg x)))) H1 → LO G locs1 → W p l e R s m args below meth c H1 locs1 cells slots Q (F0 m (pc + 1) ls rest)) : W p l e R s m args below meth c H locs cells slots Q (F0 m pc ls (.long x :: .int i :: .ref a :: rest)) := by
  obtain ⟨q0, h0⟩ := lst_at he (hW.lt he)
  refine va_last X.hx X.hb X.hK.1 hW.P hW.D (hW.S hL) q0 1 h0 rfl hin hdg (fun H1 locs1 hP _ hS => ?_)
  obtain ⟨g1, g2⟩ := hW.set h0 hP hS
  exact kk H1 locs1 g1 g2
theorem hw_zast (X : CX p s m args meth c cc nL own ret G) (hW : WR G hp H) (hL : LO G locs) {n : Nat} {f : Nat → Int32} (he : hp a = some (.inl (G.2.1 2, n, .inl f))) {i : Int32} {x : Int32} (hin : vp_in i n) (hdg : decode cc pc = .ok (.bastore, 1)) (kk : ∀ (H1 : Heap) (locs1 : List Loc), WR G (hup hp a (.inl (G.2.1 2, n, .inl (upd f i.toNatClampNeg (vp_nar .boolean x))))) H1 → LO G locs1 → W p l e R s m args below meth c H1 locs1 cells slots Q (F0 m (pc + 1) ls rest)) : W p l e R s m args below meth c H locs cells slots Q (F0 m pc ls (.int x :: .int i :: .ref a :: rest)) := by
  obtain ⟨q0, h0⟩ := lst_at he (hW.lt he)
  refine va_zast X.hx X.hb X.hK.1 hW.P hW.D (hW.S hL) q0 2 h0 rfl hin hdg (fun H1 locs1 hP _ hS => ?_)
  obtain ⟨g1, g2⟩ := hW.set h0 hP hS
  exact kk H1 locs1 g1 g2
theorem hw_bast (X : CX p s m args meth c cc nL own ret G) (hW : WR G hp H) (hL : LO G locs) {n : Nat} {f : Nat → Int32} (he : hp a = some (.inl (G.2.1 3, n, .inl f))) {i : Int32} {x : Int32} (hin : vp_in i n) (hdg : decode cc pc = .ok (.bastore, 1)) (kk : ∀ (H1 : Heap) (locs1 : List Loc), WR G (hup hp a (.inl (G.2.1 3, n, .inl (upd f i.toNatClampNeg (vp_nar .byte x))))) H1 → LO G locs1 → W p l e R s m args below meth c H1 locs1 cells slots Q (F0 m (pc + 1) ls rest)) : W p l e R s m args below meth c H locs cells slots Q (F0 m pc ls (.int x :: .int i :: .ref a :: rest)) := by
  obtain ⟨q0, h0⟩ := lst_at he (hW.lt he)
  refine va_bast X.hx X.hb X.hK.1 hW.P hW.D (hW.S hL) q0 3 h0 rfl hin hdg (fun H1 locs1 hP _ hS => ?_)
  obtain ⟨g1, g2⟩ := hW.set h0 hP hS
  exact kk H1 locs1 g1 g2
end HWS
section RWS
variable {p : Program} {l : Launch} {e : Env} {R : Room} {s : State} {m : MethodId} {args : Array Value} {below : List Frame} {meth : Method} {c : Code} {H : Heap} {locs : List Loc} {cells slots : Nat} {Q : State → Prop} {cc : ByteArray} {nL : Nat} {own : String} {ret : Option FieldType} {G : GG} {pc : Nat} {ls : Array Slot} {rest : List Value} {α : Type} {out : α} {C : String} {T : u_T} {N ci : Nat} {ty : Nat → FieldType} {index : Nat} {ref : String} {D : rw_D} {ad : Nat → Nat} {hp0 : HP} {M : RM} {fds : List (Nat × Nat)}
theorem RW.cell {q : rw_C} {o : Nat} (hM : RW G D ad hp0 M H locs) (hd : D o = some q) : ∃ hp : HP, WR G hp H ∧ hp (ad o) = some (rwc G ad (M o) q) := by
  obtain ⟨⟨hp, hW, hP, -⟩, -⟩ := hM
  exact ⟨hp, hW, hP.1 o q hd⟩
theorem r_getI (X : CX p s m args meth c cc nL own ret G) (hM : RW G D ad hp0 M H locs) (ck : CK ci C T N ty) (o k : Nat) (hd : D o = some (.inr (ci, fds))) (hf : fds[k]? = some (0, 0)) (hk : k < N) (hq : Cond.fieldLink own index ref (T k).2.1 (T k).2.2.1 ∈ lw_all) (hs : (T k).1 = ref) (hdg : decode cc pc = .ok (.getfield index, 3)) (kk : W p l e R s m args below meth c H locs cells slots Q (F0 m (pc + 3) ls (vI (M o k) :: rest))) : W p l e R s m args below meth c H locs cells slots Q (F0 m pc ls (.ref (ad o) :: rest)) := by
  obtain ⟨hp, hW, he⟩ := hM.cell hd
  exact hw_get X hW ck he k hk hq hs (v := vI (M o k)) (by rw [List.getElem?_mapIdx, hf]; rfl) hdg kk
theorem r_getJ (X : CX p s m args meth c cc nL own ret G) (hM : RW G D ad hp0 M H locs) (ck : CK ci C T N ty) (o k : Nat) (hd : D o = some (.inr (ci, fds))) (hf : fds[k]? = some (1, 0)) (hk : k < N) (hq : Cond.fieldLink own index ref (T k).2.1 (T k).2.2.1 ∈ lw_all) (hs : (T k).1 = ref) (hdg : decode cc pc = .ok (.getfield index, 3)) (kk : W p l e R s m args below meth c H locs cells slots Q (F0 m (pc + 3) ls (vL (M o k) :: rest))) : W p l e R s m args below meth c H locs cells slots Q (F0 m pc ls (.ref (ad o) :: rest)) := by
  obtain ⟨hp, hW, he⟩ := hM.cell hd
  exact hw_get X hW ck he k hk hq hs (v := vL (M o k)) (by rw [List.getElem?_mapIdx, hf]; rfl) hdg kk
theorem r_getR (X : CX p s m args meth c cc nL own ret G) (hM : RW G D ad hp0 M H locs) (ck : CK ci C T N ty) (o k : Nat) (hd : D o = some (.inr (ci, fds))) {j : Nat} (hf : fds[k]? = some (2, j)) (hk : k < N) (hq : Cond.fieldLink own index ref (T k).2.1 (T k).2.2.1 ∈ lw_all) (hs : (T k).1 = ref) (hdg : decode cc pc = .ok (.getfield index, 3)) (kk : W p l e R s m args below meth c H locs cells slots Q (F0 m (pc + 3) ls (.ref (ad j) :: rest))) : W p l e R s m args below meth c H locs cells slots Q (F0 m pc ls (.ref (ad o) :: rest)) := by
  obtain ⟨hp, hW, he⟩ := hM.cell hd
  exact hw_get X hW ck he k hk hq hs (v := .ref (ad j)) (by rw [List.getElem?_mapIdx, hf]; rfl) hdg kk
theorem mapIdx_set {fds : List (Nat × Nat)} {kd : Nat × Nat} {o k : Nat} {x : Int} (hf : fds[k]? = some kd) : (fds.mapIdx (fun k kd => rwv ad (M o k) kd)).set k (rwv ad x kd) = fds.mapIdx (fun j kd => rwv ad (up2 M o k x o j) kd) := by
  apply List.ext_getElem?
  intro i
  have hl : k < fds.length := (List.getElem?_eq_some_iff.mp hf).1
  by_cases h : i = k
  · subst h
    rw [List.getElem?_set_self (by rw [List.length_mapIdx]; exact hl), List.getElem?_mapIdx, hf]
    simp [up2_s]
  · rw [List.getElem?_set_ne (fun q => h q.symm), List.getElem?_mapIdx, List.getElem?_mapIdx]
    congr 1
    funext kd2
    rw [up2_j h]
theorem r_putI (X : CX p s m args meth c cc nL own ret G) (hM : RW G D ad hp0 M H locs) (ck : CK ci C T N ty) (o k : Nat) (hd : D o = some (.inr (ci, fds))) (hf : fds[k]? = some (0, 0)) (hk : k < N) (hq : Cond.fieldLink own index ref (T k).2.1 (T k).2.2.1 ∈ lw_all) (hs : (T k).1 = ref) (hfin : (T k).2.2.2 = false) {x : Int} {f : RM → Option α} (hE : jn (up2 M o k x) f = some out) (ht : ty k = .int) (hdg : decode cc pc = .ok (.putfield index, 3)) (kk : ∀ M1 : RM, f M1 = some out → ∀ (H1 : Heap) (locs1 : List Loc), RW G D ad hp0 M1 H1 locs1 → W p l e R s m args below meth c H1 locs1 cells slots Q (F0 m (pc + 3) ls rest)) : W p l e R s m args below meth c H locs cells slots Q (F0 m pc ls (vI x :: .ref (ad o) :: rest)) := by
  obtain ⟨⟨hp, hW, hP, hF⟩, hL⟩ := hM
  refine hw_put X hW hL ck (hP.1 o _ hd) k hk hq hs hfin ((ck.2.2.1 k hk).trans (congrArg some ht)) rfl rfl (by rw [List.length_mapIdx]; exact (List.getElem?_eq_some_iff.mp hf).1) hdg (fun H1 locs1 g1 g2 => ?_)
  exact kk _ hE H1 locs1 (RW_up hd hP hF (by show _ = Sum.inr (ci, _); rw [← mapIdx_set hf]; rfl) g1 g2)
theorem r_putZ (X : CX p s m args meth c cc nL own ret G) (hM : RW G D ad hp0 M H locs) (ck : CK ci C T N ty) (o k : Nat) (hd : D o = some (.inr (ci, fds))) (hf : fds[k]? = some (0, 0)) (hk : k < N) (hq : Cond.fieldLink own index ref (T k).2.1 (T k).2.2.1 ∈ lw_all) (hs : (T k).1 = ref) (hfin : (T k).2.2.2 = false) {x : Int} {f : RM → Option α} (hE : jn (up2 M o k x) f = some out) (hz : x = 0 ∨ x = 1) (ht : ty k = .boolean) (hdg : decode cc pc = .ok (.putfield index, 3)) (kk : ∀ M1 : RM, f M1 = some out → ∀ (H1 : Heap) (locs1 : List Loc), RW G D ad hp0 M1 H1 locs1 → W p l e R s m args below meth c H1 locs1 cells slots Q (F0 m (pc + 3) ls rest)) : W p l e R s m args below meth c H locs cells slots Q (F0 m pc ls (vI x :: .ref (ad o) :: rest)) := by
  obtain ⟨⟨hp, hW, hP, hF⟩, hL⟩ := hM
  refine hw_put X hW hL ck (hP.1 o _ hd) k hk hq hs hfin ((ck.2.2.1 k hk).trans (congrArg some ht)) (by rcases hz with h | h <;> subst h <;> decide) (by rcases hz with h | h <;> subst h <;> decide) (by rw [List.length_mapIdx]; exact (List.getElem?_eq_some_iff.mp hf).1) hdg (fun H1 locs1 g1 g2 => ?_)
  exact kk _ hE H1 locs1 (RW_up hd hP hF (by show _ = Sum.inr (ci, _); rw [← mapIdx_set hf]; rfl) g1 g2)
theorem r_putJ (X : CX p s m args meth c cc nL own ret G) (hM : RW G D ad hp0 M H locs) (ck : CK ci C T N ty) (o k : Nat) (hd : D o = some (.inr (ci, fds))) (hf : fds[k]? = some (1, 0)) (hk : k < N) (hq : Cond.fieldLink own index ref (T k).2.1 (T k).2.2.1 ∈ lw_all) (hs : (T k).1 = ref) (hfin : (T k).2.2.2 = false) {x : Int} {f : RM → Option α} (hE : jn (up2 M o k x) f = some out) (ht : ty k = .long) (hdg : decode cc pc = .ok (.putfield index, 3)) (kk : ∀ M1 : RM, f M1 = some out → ∀ (H1 : Heap) (locs1 : List Loc), RW G D ad hp0 M1 H1 locs1 → W p l e R s m args below meth c H1 locs1 cells slots Q (F0 m (pc + 3) ls rest)) : W p l e R s m args below meth c H locs cells slots Q (F0 m pc ls (vL x :: .ref (ad o) :: rest)) := by
  obtain ⟨⟨hp, hW, hP, hF⟩, hL⟩ := hM
  refine hw_put X hW hL ck (hP.1 o _ hd) k hk hq hs hfin ((ck.2.2.1 k hk).trans (congrArg some ht)) rfl rfl (by rw [List.length_mapIdx]; exact (List.getElem?_eq_some_iff.mp hf).1) hdg (fun H1 locs1 g1 g2 => ?_)
  exact kk _ hE H1 locs1 (RW_up hd hP hF (by show _ = Sum.inr (ci, _); rw [← mapIdx_set hf]; rfl) g1 g2)
theorem r_iald (X : CX p s m args meth c cc nL own ret G) (hM : RW G D ad hp0 M H locs) (o : Nat) {n : Nat} (hd : D o = some (.inl (0, n))) (hn : n ≤ 100000000) {i : Int} {f : Int → Option α} (hE : ob (gA n M o i) f = some out) (hdg : decode cc pc = .ok (.iaload, 1)) (kk : ∀ v : Int, f v = some out → W p l e R s m args below meth c H locs cells slots Q (F0 m (pc + 1) ls (vI v :: rest))) : W p l e R s m args below meth c H locs cells slots Q (F0 m pc ls (vI i :: .ref (ad o) :: rest)) := by
  obtain ⟨v, h1, hE⟩ := ob_some hE
  obtain ⟨hi, rfl⟩ := gA_some h1
  obtain ⟨hp, hW, he⟩ := hM.cell hd
  obtain ⟨i1, i2⟩ := i32_in hi hn
  refine hw_iald X hW he i1 hdg ?_
  rw [i2]
  exact kk _ hE
theorem r_lald (X : CX p s m args meth c cc nL own ret G) (hM : RW G D ad hp0 M H locs) (o : Nat) {n : Nat} (hd : D o = some (.inl (1, n))) (hn : n ≤ 100000000) {i : Int} {f : Int → Option α} (hE : ob (gA n M o i) f = some out) (hdg : decode cc pc = .ok (.laload, 1)) (kk : ∀ v : Int, f v = some out → W p l e R s m args below meth c H locs cells slots Q (F0 m (pc + 1) ls (vL v :: rest))) : W p l e R s m args below meth c H locs cells slots Q (F0 m pc ls (vI i :: .ref (ad o) :: rest)) := by
  obtain ⟨v, h1, hE⟩ := ob_some hE
  obtain ⟨hi, rfl⟩ := gA_some h1
  obtain ⟨hp, hW, he⟩ := hM.cell hd
  obtain ⟨i1, i2⟩ := i32_in hi hn
  refine hw_lald X hW he i1 hdg ?_
  rw [i2]
  exact kk _ hE
theorem r_zald (X : CX p s m args meth c cc nL own ret G) (hM : RW G D ad hp0 M H locs) (o : Nat) {n : Nat} (hd : D o = some (.inl (2, n))) (hn : n ≤ 100000000) {i : Int} {f : Int → Option α} (hE : ob (gA n M o i) f = some out) (hdg : decode cc pc = .ok (.baload, 1)) (kk : ∀ v : Int, f v = some out → W p l e R s m args below meth c H locs cells slots Q (F0 m (pc + 1) ls (vI v :: rest))) : W p l e R s m args below meth c H locs cells slots Q (F0 m pc ls (vI i :: .ref (ad o) :: rest)) := by
  obtain ⟨v, h1, hE⟩ := ob_some hE
  obtain ⟨hi, rfl⟩ := gA_some h1
  obtain ⟨hp, hW, he⟩ := hM.cell hd
  obtain ⟨i1, i2⟩ := i32_in hi hn
  refine hw_zald X hW he i1 hdg ?_
  rw [i2]
  exact kk _ hE
theorem r_bald (X : CX p s m args meth c cc nL own ret G) (hM : RW G D ad hp0 M H locs) (o : Nat) {n : Nat} (hd : D o = some (.inl (3, n))) (hn : n ≤ 100000000) {i : Int} {f : Int → Option α} (hE : ob (gA n M o i) f = some out) (hdg : decode cc pc = .ok (.baload, 1)) (kk : ∀ v : Int, f v = some out → W p l e R s m args below meth c H locs cells slots Q (F0 m (pc + 1) ls (vI v :: rest))) : W p l e R s m args below meth c H locs cells slots Q (F0 m pc ls (vI i :: .ref (ad o) :: rest)) := by
  obtain ⟨v, h1, hE⟩ := ob_some hE
  obtain ⟨hi, rfl⟩ := gA_some h1
  obtain ⟨hp, hW, he⟩ := hM.cell hd
  obtain ⟨i1, i2⟩ := i32_in hi hn
  refine hw_bald X hW he i1 hdg ?_
  rw [i2]
  exact kk _ hE
theorem r_iast (X : CX p s m args meth c cc nL own ret G) (hM : RW G D ad hp0 M H locs) (o : Nat) {n : Nat} (hd : D o = some (.inl (0, n))) (hn : n ≤ 100000000) {i x : Int} {f : RM → Option α} (hE : ob (sA n M o i x) f = some out) (hdg : decode cc pc = .ok (.iastore, 1)) (kk : ∀ M1 : RM, f M1 = some out → ∀ (H1 : Heap) (locs1 : List Loc), RW G D ad hp0 M1 H1 locs1 → W p l e R s m args below meth c H1 locs1 cells slots Q (F0 m (pc + 1) ls rest)) : W p l e R s m args below meth c H locs cells slots Q (F0 m pc ls (vI x :: vI i :: .ref (ad o) :: rest)) := by
  obtain ⟨M', h1, hE⟩ := ob_some hE
  obtain ⟨hi, rfl⟩ := sA_some h1
  obtain ⟨⟨hp, hW, hP, hF⟩, hL⟩ := hM
  obtain ⟨i1, i2⟩ := i32_in hi hn
  refine hw_iast X hW hL (hP.1 o _ hd) i1 hdg (fun H1 locs1 g1 g2 => ?_)
  refine kk _ hE H1 locs1 (RW_up hd hP hF ?_ g1 g2)
  show (Sum.inl (G.2.1 0, n, _) : va_E) = Sum.inl (G.2.1 0, n, rwa ad 0 (up2 M o i.toNat x o))
  congr 3
  rw [i2]
  show _ = rwa ad 0 (up2 M o i.toNat x o)
  unfold rwa
  try dsimp only
  congr 1
  funext j
  by_cases h : j = i.toNat
  · subst h; simp [upd, up2_s]
  · simp [upd, h, up2_j h]
theorem r_last (X : CX p s m args meth c cc nL own ret G) (hM : RW G D ad hp0 M H locs) (o : Nat) {n : Nat} (hd : D o = some (.inl (1, n))) (hn : n ≤ 100000000) {i x : Int} {f : RM → Option α} (hE : ob (sA n M o i x) f = some out) (hdg : decode cc pc = .ok (.lastore, 1)) (kk : ∀ M1 : RM, f M1 = some out → ∀ (H1 : Heap) (locs1 : List Loc), RW G D ad hp0 M1 H1 locs1 → W p l e R s m args below meth c H1 locs1 cells slots Q (F0 m (pc + 1) ls rest)) : W p l e R s m args below meth c H locs cells slots Q (F0 m pc ls (vL x :: vI i :: .ref (ad o) :: rest)) := by
  obtain ⟨M', h1, hE⟩ := ob_some hE
  obtain ⟨hi, rfl⟩ := sA_some h1
  obtain ⟨⟨hp, hW, hP, hF⟩, hL⟩ := hM
  obtain ⟨i1, i2⟩ := i32_in hi hn
  refine hw_last X hW hL (hP.1 o _ hd) i1 hdg (fun H1 locs1 g1 g2 => ?_)
  refine kk _ hE H1 locs1 (RW_up hd hP hF ?_ g1 g2)
  show (Sum.inl (G.2.1 1, n, _) : va_E) = Sum.inl (G.2.1 1, n, rwa ad 1 (up2 M o i.toNat x o))
  congr 3
  rw [i2]
  show _ = rwa ad 1 (up2 M o i.toNat x o)
  unfold rwa
  try dsimp only
  congr 1
  congr 1
  funext j
  by_cases h : j = i.toNat
  · subst h; simp [vp_updL, up2_s]
  · simp [vp_updL, h, up2_j h]
theorem r_zast (X : CX p s m args meth c cc nL own ret G) (hM : RW G D ad hp0 M H locs) (o : Nat) {n : Nat} (hd : D o = some (.inl (2, n))) (hn : n ≤ 100000000) {i x : Int} {f : RM → Option α} (hE : ob (sZ n M o i x) f = some out) (hdg : decode cc pc = .ok (.bastore, 1)) (kk : ∀ M1 : RM, f M1 = some out → ∀ (H1 : Heap) (locs1 : List Loc), RW G D ad hp0 M1 H1 locs1 → W p l e R s m args below meth c H1 locs1 cells slots Q (F0 m (pc + 1) ls rest)) : W p l e R s m args below meth c H locs cells slots Q (F0 m pc ls (vI x :: vI i :: .ref (ad o) :: rest)) := by
  obtain ⟨M', h1, hE⟩ := ob_some hE
  obtain ⟨hi, rfl⟩ := sZ_some h1
  obtain ⟨hi, hz⟩ := hi
  have hz : vp_nar .boolean (Int32.ofInt x) = Int32.ofInt x := by rcases hz with h | h <;> subst h <;> decide
  obtain ⟨⟨hp, hW, hP, hF⟩, hL⟩ := hM
  obtain ⟨i1, i2⟩ := i32_in hi hn
  refine hw_zast X hW hL (hP.1 o _ hd) i1 hdg (fun H1 locs1 g1 g2 => ?_)
  refine kk _ hE H1 locs1 (RW_up hd hP hF ?_ g1 g2)
  show (Sum.inl (G.2.1 2, n, _) : va_E) = Sum.inl (G.2.1 2, n, rwa ad 2 (up2 M o i.toNat x o))
  congr 3
  rw [i2]
  rw [hz]
  show _ = rwa ad 2 (up2 M o i.toNat x o)
  unfold rwa
  try dsimp only
  congr 1
  funext j
  by_cases h : j = i.toNat
  · subst h; simp [upd, up2_s]
  · simp [upd, h, up2_j h]
theorem r_alen (X : CX p s m args meth c cc nL own ret G) (hM : RW G D ad hp0 M H locs) (o : Nat) {t n : Nat} {tt : FieldType} (hd : D o = some (.inl (t, n))) (ht : ∀ cA : Nat → ClassId, (TYS cA)[t % 10]? = some (cA (t % 10), tt)) (hdg : decode cc pc = .ok (.arraylength, 1)) (kk : W p l e R s m args below meth c H locs cells slots Q (F0 m (pc + 1) ls (vI n :: rest))) : W p l e R s m args below meth c H locs cells slots Q (F0 m pc ls (.ref (ad o) :: rest)) := by
  obtain ⟨hp, hW, he⟩ := hM.cell hd
  exact va_alen X.hx X.hb X.hK.1 (hW.one he) 0 (t % 10) rfl (ht _) (v := Int32.ofInt n) (Int32.ofInt_eq_ofNat (n := n)).symm hdg kk
/-- a record method's contract: with these arguments it answers rv, the record world M is M' then -/
def MR (l : Launch) (y : MethodName) (ws : List Cond) (d : Nat) (G : GG) (D : rw_D) (ad : Nat → Nat) (hp0 : HP) (As : List Value) (M : RM) (rv : Option Value) (M' : RM) : Prop :=
  Met l y ws (rmD d) (va_Pc As (fun U => KG G U ∧ RWh G D ad hp0 M U.heap)) (fun _ _ oc t => oc = .returned rv ∧ RWh G D ad hp0 M' t.heap) 0 0 (fun q => G.2.2.size ≤ q)
def QR (below : List Frame) (G : GG) (D : rw_D) (ad : Nat → Nat) (hp0 : HP) (args : Array Value) (s : State) (rv : Option Value) (M' : RM) : State → Prop :=
  MQ below (fun _ _ oc t => oc = .returned rv ∧ RWh G D ad hp0 M' t.heap) args s 0 0 (fun q => G.2.2.size ≤ q)
theorem MR.of {y : MethodName} {d : Nat} {vs : List Value} {lv : List (Nat × Value)} {rv : Option Value} {M' : RM} (hy : plainName y.cls = true) (hn : (lg_sl vs).length ≤ nL) (hlv : lv_args 0 vs = lv)
    (body : ∀ (p : Program) (e : Env) (s : State) (m : MethodId) (below : List Frame) (meth : Method) (c : Code) (ls : Array Slot), CX p s m vs.toArray meth c cc nL y.cls ret G → RW G D ad hp0 M s.heap [] → lv_has ls nL lv → W p l e (rmD d) s m vs.toArray below meth c s.heap [] 0 0 (QR below G D ad hp0 vs.toArray s rv M') (F0 m 0 ls [])) : MR l y (ws_ y cc nL ret) d G D ad hp0 vs M rv M' := by
  refine Met.ofW (cc := cc) (maxL := nL) (ret := ret) hy rfl ?_
  intro p e s m args below meth c s₁ B hml hv
  obtain ⟨rfl, hK, hM⟩ := hv
  have hts := atoms_spec (ws := ws_ y cc nL ret) B.pre
  have hl := lv_entry vs (n := nL) hn
  rw [lg_entry_eq]
  generalize (lg_sl vs ++ List.replicate (nL - (lg_sl vs).length) Slot.unset).toArray = ls at hl ⊢
  rw [hlv] at hl
  exact body p e s m below meth c ls ⟨⟨B.exec, B.bytes, hml, findClass_of_methodNamed B.named, fun w h => hts w (List.mem_cons_of_mem _ h)⟩, B.returns, B.notSynchronized, hK⟩ ⟨hM, fun q h => by cases h⟩ hl
theorem r_zret {tv : FieldType} {x : Int} (X : CX p s m args meth c cc nL own (some tv) G) (hM : RW G D ad hp0 M H locs) (hn : narrow tv (vI x) = vI x) (hdg : decode cc pc = .ok (.ireturn, 1)) : W p l e R s m args below meth c H locs 0 0 (QR below G D ad hp0 args s (some (vI x)) M) (F0 m pc ls [vI x]) :=
  W.zret X.hx X.hb X.2.1 hn (fun t ht _ => ⟨rfl, by rw [ht]; exact hM.1⟩) hM.2 hdg X.2.2.1
theorem r_lret {x : Int} (X : CX p s m args meth c cc nL own (some .long) G) (hM : RW G D ad hp0 M H locs) (hdg : decode cc pc = .ok (.lreturn, 1)) : W p l e R s m args below meth c H locs 0 0 (QR below G D ad hp0 args s (some (vL x)) M) (F0 m pc ls [vL x]) :=
  W.lret X.hx X.hb X.2.1 (fun t ht _ => ⟨rfl, by rw [ht]; exact hM.1⟩) hM.2 hdg X.2.2.1
theorem r_vret (X : CX p s m args meth c cc nL own none G) (hM : RW G D ad hp0 M H locs) (hdg : decode cc pc = .ok (.return_, 1)) : W p l e R s m args below meth c H locs 0 0 (QR below G D ad hp0 args s none M) (F0 m pc ls []) :=
  W.vret X.hx X.hb X.2.1 (fun t ht _ => ⟨rfl, by rw [ht]; exact hM.1⟩) hM.2 hdg X.2.2.1
theorem nb_z {x v : Int} (h : tz x = some v) : narrow .boolean (vI x) = vI x := by
  rcases (tz_some h).1 with h | h <;> subst h <;> decide
theorem r_run {rv : Option Value} {M' : RM} {st0 : List Value} (hr : va_Run p l e R s m args below meth c H locs cells slots 0 0 (F0 m pc ls st0) rest (fun _ oc t => oc = .returned rv ∧ RWh G D ad hp0 M' t.heap) (fun q => G.2.2.size ≤ q)) (hL : LO G locs)
    (kk : ∀ (H1 : Heap) (locs1 : List Loc), RW G D ad hp0 M' H1 locs1 → W p l e R s m args below meth c H1 locs1 cells slots Q (F0 m (pc + 3) ls (rv.toList ++ rest))) : W p l e R s m args below meth c H locs cells slots Q (F0 m pc ls st0) := by
  intro T hT X
  obtain ⟨v, st₀, t, T', L, h0, X', hL', e1, e2, ⟨hv, hq⟩, st⟩ := hr T hT X
  cases hv
  obtain ⟨t2, a1, b1⟩ := kk T'.heap (locs ++ L) ⟨by rw [e1]; exact hq, fun q hq => (List.mem_append.mp hq).elim (hL q) (hL' q)⟩ T' rfl X'
  exact ⟨t2, st t2 a1, b1⟩
theorem pc_blind {As : List Value} : FrameBlind (va_Pc As (fun U => KG G U ∧ RWh G D ad hp0 M U.heap)) := fun a U g mk q => ⟨q.1, KG.same (u := U) (U := U.calling g mk a) rfl q.2.1, q.2.2⟩
theorem r_callV {dd d1 n maxL mc ms : Nat} {y : MethodName} {bytes : ByteArray} {ry : Option FieldType} {As st0 : List Value} {rv : Option Value} {M' : RM} (X : CX p s m args meth c cc nL own ret G) (hM : RW G D ad hp0 M H locs) (o : Nat) (hd : D o = some (.inr (ci, fds))) (ck : CK ci C T N ty)
    (hMet : MR l y (ws_ y bytes maxL ry) d1 G D ad hp0 (.ref (ad o) :: As) M rv M') (cw : CallW (rmA dd mc ms) s args own C index y bytes maxL ry (ws_ y bytes maxL ry) (rmD d1) 0 0 n) (hn : As.length = n) (hl : ls.size = nL) (hst : st0 = As.reverse ++ .ref (ad o) :: rest) (hroom : (rest.map fun v => v.category).sum ≤ 8) (hdg : decode cc pc = .ok (.invokevirtual index, 3)) (hcs : cells ≤ mc ∧ slots ≤ ms)
    (kk : ∀ (H1 : Heap) (locs1 : List Loc), RW G D ad hp0 M' H1 locs1 → W p l e (rmA dd mc ms) s m args below meth c H1 locs1 cells slots Q (F0 m (pc + 3) ls (rv.toList ++ rest))) : W p l e (rmA dd mc ms) s m args below meth c H locs cells slots Q (F0 m pc ls st0) := by
  obtain ⟨hp, hW, he⟩ := hM.cell hd
  exact r_run (va_runV X.1 hMet cw ⟨pc_blind, va_recv X.hK.1 (hW.one he) (ci := ci) (q0 := 0) ck.1 rfl, fun U hU hWm => ⟨rfl, X.hK.warm hWm, by rw [hU]; exact hM.1⟩⟩ rfl hn hl hst (lv_room hroom) hdg hcs) hM.2 kk
theorem r_callS {dd d1 n maxL mc ms : Nat} {y : MethodName} {bytes : ByteArray} {ry : Option FieldType} {As st0 : List Value} {rv : Option Value} {M' : RM} (X : CX p s m args meth c cc nL own ret G) (hM : RW G D ad hp0 M H locs)
    (hMet : MR l y (ws_ y bytes maxL ry) d1 G D ad hp0 As M rv M') (cw : CallB (rmA dd mc ms) s args own index y bytes maxL ry (ws_ y bytes maxL ry) (rmD d1) 0 0 n ∧ (Cond.static y).before args s = true) (hn : As.length = n) (hl : ls.size = nL) (hst : st0 = As.reverse ++ rest) (hroom : (rest.map fun v => v.category).sum ≤ 8) (hdg : decode cc pc = .ok (.invokestatic index, 3)) (hcs : cells ≤ mc ∧ slots ≤ ms)
    (kk : ∀ (H1 : Heap) (locs1 : List Loc), RW G D ad hp0 M' H1 locs1 → W p l e (rmA dd mc ms) s m args below meth c H1 locs1 cells slots Q (F0 m (pc + 3) ls (rv.toList ++ rest))) : W p l e (rmA dd mc ms) s m args below meth c H locs cells slots Q (F0 m pc ls st0) :=
  r_run (va_runS X.1 hMet cw ⟨pc_blind, fun U hU hWm => ⟨rfl, X.hK.warm hWm, by rw [hU]; exact hM.1⟩⟩ rfl hn hl hst (lv_room hroom) hdg hcs) hM.2 kk
theorem r_callV1 {dd d1 n maxL mc ms : Nat} {y : MethodName} {bytes : ByteArray} {ry : Option FieldType} {As st0 : List Value} {v : Value} {M' : RM} (X : CX p s m args meth c cc nL own ret G) (hM : RW G D ad hp0 M H locs) (o : Nat) (hd : D o = some (.inr (ci, fds))) (ck : CK ci C T N ty) (hMet : MR l y (ws_ y bytes maxL ry) d1 G D ad hp0 (.ref (ad o) :: As) M (some v) M') (cw : CallW (rmA dd mc ms) s args own C index y bytes maxL ry (ws_ y bytes maxL ry) (rmD d1) 0 0 n) (hn : As.length = n) (hl : ls.size = nL) (hst : st0 = As.reverse ++ .ref (ad o) :: rest) (hroom : (rest.map fun v => v.category).sum ≤ 8) (hdg : decode cc pc = .ok (.invokevirtual index, 3)) (hcs : cells ≤ mc ∧ slots ≤ ms) (kk : ∀ (H1 : Heap) (locs1 : List Loc), RW G D ad hp0 M' H1 locs1 → W p l e (rmA dd mc ms) s m args below meth c H1 locs1 cells slots Q (F0 m (pc + 3) ls (v :: rest))) : W p l e (rmA dd mc ms) s m args below meth c H locs cells slots Q (F0 m pc ls st0) := r_callV X hM o hd ck hMet cw hn hl hst hroom hdg hcs kk
theorem r_callS1 {dd d1 n maxL mc ms : Nat} {y : MethodName} {bytes : ByteArray} {ry : Option FieldType} {As st0 : List Value} {v : Value} {M' : RM} (X : CX p s m args meth c cc nL own ret G) (hM : RW G D ad hp0 M H locs) (hMet : MR l y (ws_ y bytes maxL ry) d1 G D ad hp0 As M (some v) M') (cw : CallB (rmA dd mc ms) s args own index y bytes maxL ry (ws_ y bytes maxL ry) (rmD d1) 0 0 n ∧ (Cond.static y).before args s = true) (hn : As.length = n) (hl : ls.size = nL) (hst : st0 = As.reverse ++ rest) (hroom : (rest.map fun v => v.category).sum ≤ 8) (hdg : decode cc pc = .ok (.invokestatic index, 3)) (hcs : cells ≤ mc ∧ slots ≤ ms) (kk : ∀ (H1 : Heap) (locs1 : List Loc), RW G D ad hp0 M' H1 locs1 → W p l e (rmA dd mc ms) s m args below meth c H1 locs1 cells slots Q (F0 m (pc + 3) ls (v :: rest))) : W p l e (rmA dd mc ms) s m args below meth c H locs cells slots Q (F0 m pc ls st0) := r_callS X hM hMet cw hn hl hst hroom hdg hcs kk
theorem r_callV0 {dd d1 n maxL mc ms : Nat} {y : MethodName} {bytes : ByteArray} {ry : Option FieldType} {As st0 : List Value} {M' : RM} (X : CX p s m args meth c cc nL own ret G) (hM : RW G D ad hp0 M H locs) (o : Nat) (hd : D o = some (.inr (ci, fds))) (ck : CK ci C T N ty) (hMet : MR l y (ws_ y bytes maxL ry) d1 G D ad hp0 (.ref (ad o) :: As) M none M') (cw : CallW (rmA dd mc ms) s args own C index y bytes maxL ry (ws_ y bytes maxL ry) (rmD d1) 0 0 n) (hn : As.length = n) (hl : ls.size = nL) (hst : st0 = As.reverse ++ .ref (ad o) :: rest) (hroom : (rest.map fun v => v.category).sum ≤ 8) (hdg : decode cc pc = .ok (.invokevirtual index, 3)) (hcs : cells ≤ mc ∧ slots ≤ ms) (kk : ∀ (H1 : Heap) (locs1 : List Loc), RW G D ad hp0 M' H1 locs1 → W p l e (rmA dd mc ms) s m args below meth c H1 locs1 cells slots Q (F0 m (pc + 3) ls rest)) : W p l e (rmA dd mc ms) s m args below meth c H locs cells slots Q (F0 m pc ls st0) := r_callV X hM o hd ck hMet cw hn hl hst hroom hdg hcs kk
theorem r_callS0 {dd d1 n maxL mc ms : Nat} {y : MethodName} {bytes : ByteArray} {ry : Option FieldType} {As st0 : List Value} {M' : RM} (X : CX p s m args meth c cc nL own ret G) (hM : RW G D ad hp0 M H locs) (hMet : MR l y (ws_ y bytes maxL ry) d1 G D ad hp0 As M none M') (cw : CallB (rmA dd mc ms) s args own index y bytes maxL ry (ws_ y bytes maxL ry) (rmD d1) 0 0 n ∧ (Cond.static y).before args s = true) (hn : As.length = n) (hl : ls.size = nL) (hst : st0 = As.reverse ++ rest) (hroom : (rest.map fun v => v.category).sum ≤ 8) (hdg : decode cc pc = .ok (.invokestatic index, 3)) (hcs : cells ≤ mc ∧ slots ≤ ms) (kk : ∀ (H1 : Heap) (locs1 : List Loc), RW G D ad hp0 M' H1 locs1 → W p l e (rmA dd mc ms) s m args below meth c H1 locs1 cells slots Q (F0 m (pc + 3) ls rest)) : W p l e (rmA dd mc ms) s m args below meth c H locs cells slots Q (F0 m pc ls st0) := r_callS X hM hMet cw hn hl hst hroom hdg hcs kk
theorem jn_ex {α β : Type} {v : β} {f : β → Option α} {out : α} (h : jn v f = some out) : ∃ k, k = v ∧ f k = some out := ⟨v, rfl, h⟩
theorem e_tin (X : CX p s m args meth c cc nL own ret G) {x : Int} (k : Int) (h : w32 x = k) {dflt lo hi : Int} {offs : Array Int} {len : Nat} {off : Int} {tgt : Nat} (hdg : decode cc pc = .ok (.tableswitch dflt lo hi offs, len)) (h1 : ¬ k < lo) (h2 : ¬ hi < k) (ho : offs[(k - lo).toNat]? = some off) (ht : (pc : Int) + off = (tgt : Int)) (kk : W p l e R s m args below meth c H locs cells slots Q (F0 m tgt ls rest)) : W p l e R s m args below meth c H locs cells slots Q (F0 m pc ls (vI x :: rest)) := by
  rw [← toInt_w32] at h
  subst h
  exact lv_tableIn X.hx X.hb hdg h1 h2 ho ht kk
theorem e_tout (X : CX p s m args meth c cc nL own ret G) {x : Int} {dflt lo hi : Int} {offs : Array Int} {len : Nat} {tgt : Nat} (hdg : decode cc pc = .ok (.tableswitch dflt lo hi offs, len)) (h : w32 x < lo ∨ hi < w32 x) (ht : (pc : Int) + dflt = (tgt : Int)) (kk : W p l e R s m args below meth c H locs cells slots Q (F0 m tgt ls rest)) : W p l e R s m args below meth c H locs cells slots Q (F0 m pc ls (vI x :: rest)) := by
  rw [← toInt_w32] at h
  exact lv_tableOut X.hx X.hb hdg h ht kk
theorem cxR {dd mc ms d1 maxL : Nat} (h : d1 + 1 ≤ dd) (h2 : maxL ≤ 29) : (rmA d1 0 0).frames + 1 ≤ (rmA dd mc ms).frames ∧ 8 + (maxL + 11) + (rmA d1 0 0).locals ≤ (rmA dd mc ms).locals := ⟨h, by show 8 + (maxL + 11) + 48 * d1 ≤ 48 * dd; omega⟩
end RWS
