/-! 12b ARR: new arrays and copies in the heap world -/
set_option maxRecDepth 100000
theorem WR.pushA {G : GG} {hp : HP} {H H1 : Heap} {e : va_E} (h : WR G hp H) (z : H1.size = H.size + 1) (o : ∀ q : Nat, q < H.size → H1[q]? = H[q]?) (hat : va_at G.1 CLs (H.size, e) H1) : hp H.size = none ∧ WR G (hup hp H.size e) H1 := by
  have hn : hp H.size = none := by
    cases hq : hp H.size with
    | none => rfl
    | some e0 => exact absurd (h.lt hq) (Nat.lt_irrefl _)
  refine ⟨hn, by rw [z]; exact Nat.le_succ_of_le h.1, fun q hq => (o q (Nat.lt_of_lt_of_le hq h.1)).trans (h.2.1 q hq), fun b e2 hb => ?_⟩
  by_cases hba : b = H.size
  · subst hba
    rw [show hup hp H.size e H.size = some e by unfold hup; rw [if_pos rfl]] at hb
    cases hb
    exact ⟨h.1, hat⟩
  · rw [show hup hp H.size e b = hp b by unfold hup; rw [if_neg hba]] at hb
    exact ⟨(h.2.2 b e2 hb).1, (h.2.2 b e2 hb).2.kept (o b (h.lt hb))⟩
theorem KG.cA {G : GG} {U : State} (h : KG G U) {t : Nat} {ty : FieldType} {cA : ClassId} (ht : ∀ cA : Nat → ClassId, (TYS cA)[t]? = some (cA t, ty)) (hn : U.vm.findClass ("[" ++ ty.toString) = some cA) : cA = G.2.1 t := Option.some.inj (hn.symm.trans (h.2.2.2.2.2.1 t _ (ht _)))
def hCpI (G : GG) (hp : HP) (a0 : Nat) (sp : Int) (a1 : Nat) (dp n : Int) (F : HP → Prop) : Prop := ∃ (n0 n1 : Nat) (f g : Nat → Int32), hp a0 = some (.inl (G.2.1 0, (n0, .inl f))) ∧ hp a1 = some (.inl (G.2.1 0, (n1, .inl g))) ∧ (n0 ≤ 100000000 ∧ n1 ≤ 100000000 ∧ 0 ≤ sp ∧ 0 ≤ dp ∧ 0 ≤ n ∧ sp + n ≤ n0 ∧ dp + n ≤ n1) ∧ F (hup hp a1 (.inl (G.2.1 0, (n1, .inl (va_cpy f g sp.toNat dp.toNat n.toNat)))))
theorem nn32 {x : Int} (h : 0 ≤ x ∧ x ≤ 100000000) : ¬ Int32.ofInt x < 0 ∧ (Int32.ofInt x).toNatClampNeg = x.toNat := by
  have e : (Int32.ofInt x).toInt = x := by rw [toInt_w32, w32_of (by omega) (by omega)]
  refine ⟨fun z => ?_, ?_⟩
  · rw [Int32.lt_iff_toInt_lt, e] at z
    have : (0 : Int32).toInt = 0 := rfl
    omega
  · show (Int32.ofInt x).toInt.toNat = x.toNat
    rw [e]
section ARR
variable {p : Program} {l : Launch} {e : Env} {R : Room} {s : State} {m : MethodId} {args : Array Value} {below : List Frame} {meth : Method} {c : Code} {H : Heap} {locs : List Loc} {cells slots : Nat} {Q : State → Prop} {cc : ByteArray} {nL : Nat} {own : String} {ret : Option FieldType} {G : GG} {pc : Nat} {ls : Array Slot} {rest : List Value} {index a : Nat} {hp : HP}
theorem h_newarray (X : CX p s m args meth c cc nL own ret G) (hW : WH G hp H locs) {t n : Nat} {atype : ArrayType} {ty : FieldType} {a0 : (Nat → Int32) ⊕ (Nat → Int64) ⊕ (Nat → UInt32) ⊕ (Nat → UInt64) ⊕ (Nat → Option Nat)} {F : HP → Nat → Prop} (hE : haN G hp t n a0 F) (hty : newarray.typeOf atype = ty) (ht : ∀ cA : Nat → ClassId, (TYS cA)[t]? = some (cA t, ty)) (ha : ∀ cA : ClassId, vp_cell cA (n, a0) = arrV cA n (fun _ => defaultValue ty)) (hq : Cond.arrayClass ty ∈ lw_all) (hb : n ≤ 1000) (hcb : componentBytes ty ≤ 8) (hc : cells + 1 ≤ R.cells) (hs : slots + n ≤ R.slots) (c1 s1 : Nat) (e1 : cells + 1 = c1) (e2 : slots + n = s1) (hdg : decode cc pc = .ok (.newarray atype, 2)) (kk : ∀ (hp1 : HP) (q : Nat), F hp1 q → ∀ (H1 : Heap) (locs1 : List Loc), WH G hp1 H1 locs1 → W p l e R s m args below meth c H1 locs1 c1 s1 Q (F0 m (pc + 2) ls (.ref q :: rest))) {x : Int} (hx : x = n) : W p l e R s m args below meth c H locs cells slots Q (F0 m pc ls (vI x :: rest)) := by
  subst e1; subst e2; subst hx
  obtain ⟨h1, h2⟩ := nn32 (x := (n : Int)) ⟨by omega, by omega⟩
  have hq2 := X.ht _ hq
  rw [← hty] at hq2
  refine va_newaK X.hx X.hb (g := F0 m pc ls (vI n :: rest)) hq2 rfl hdg rfl h1 h2 ?_ hc (by simpa using hs) rfl (fun H1 cA g1 g2 g3 g4 g5 => ?_)
  · rw [hty]
    refine Nat.le_trans (Nat.mul_le_mul (by omega : (n : Int).toNat ≤ 1000) hcb) (by decide)
  · rw [hty] at g5
    have hA := X.hK.cA ht g5
    subst hA
    obtain ⟨q1, q2⟩ := hW.1.pushA (e := .inl (G.2.1 t, (n, a0))) g2 g3 (by show H1[H.size]? = some (vp_cell _ _); rw [ha, g1, hty]; rfl)
    exact kk _ _ (hE _ q1) H1 _ ⟨q2, hW.2⟩
theorem h_anewarray (X : CX p s m args meth c cc nL own ret G) (hW : WH G hp H locs) {t n : Nat} {C : String} {F : HP → Nat → Prop} (hE : haN G hp t n (.inr (.inr (.inr (.inr (fun _ => none))))) F) (ht : ∀ cA : Nat → ClassId, (TYS cA)[t]? = some (cA t, .object C)) (hq : Cond.classLink own index C ∈ lw_all) (hC : C ∈ AOL) (hb : n ≤ 1000) (hc : cells + 1 ≤ R.cells) (hs : slots + n ≤ R.slots) (c1 s1 : Nat) (e1 : cells + 1 = c1) (e2 : slots + n = s1) (hdg : decode cc pc = .ok (.anewarray index, 3)) (kk : ∀ (hp1 : HP) (q : Nat), F hp1 q → ∀ (H1 : Heap) (locs1 : List Loc), WH G hp1 H1 locs1 → W p l e R s m args below meth c H1 locs1 c1 s1 Q (F0 m (pc + 3) ls (.ref q :: rest))) {x : Int} (hx : x = n) : W p l e R s m args below meth c H locs cells slots Q (F0 m pc ls (vI x :: rest)) := by
  subst e1; subst e2; subst hx
  obtain ⟨h1, h2⟩ := nn32 (x := (n : Int)) ⟨by omega, by omega⟩
  have h2' : (Int32.ofInt (n : Int)).toNatClampNeg = n := by rw [h2]; rfl
  refine W.anew X.hx X.hb X.ho (X.ht _ hq) (va_AO.use (X.hK.2.2.2.1 C hC)) (g := F0 m pc ls (vI n :: rest)) rfl hdg rfl h1 (by rw [h2']; omega) hc (by rw [h2']; exact hs) (fun cA kA comp f1 f2 f3 f4 => ?_)
  have hA := X.hK.cA ht f1
  subst hA
  rw [h2']
  obtain ⟨q1, q2⟩ := hW.1.pushA (e := .inl (G.2.1 t, (n, .inr (.inr (.inr (.inr (fun _ => none))))))) (H1 := H.push ({ cls := G.2.1 t, slots := Array.replicate n .null, vm := .none } : Cell)) (by rw [Array.size_push]) (fun q hq => by rw [Array.getElem?_push, if_neg (Nat.ne_of_lt hq)]) (by show (H.push _)[H.size]? = some (vp_cell _ _); rw [vp_cell_q, Array.getElem?_push_size, ← arrV_new]; rfl)
  exact kk _ _ (hE _ q1) _ _ ⟨q2, hW.2⟩
theorem h_copyI (X : CX p s m args meth c cc nL own ret G) (hW : WH G hp H locs) (hl : ls.size = nL) {a0 a1 : Nat} {sp dp n : Int} {F : HP → Prop} (hE : hCpI G hp a0 sp a1 dp n F) (hq : Cond.methodLink own index arraycopyName ∈ lw_all) {dd mc ms : Nat} (hR : R = rmA (dd + 1) mc ms) (hr : (rest.map fun v => v.category).sum ≤ 8) (hdg : decode cc pc = .ok (.invokestatic index, 3)) (kk : ∀ hp1 : HP, F hp1 → ∀ (H1 : Heap) (locs1 : List Loc), WH G hp1 H1 locs1 → W p l e R s m args below meth c H1 locs1 cells slots Q (F0 m (pc + 3) ls rest)) : W p l e R s m args below meth c H locs cells slots Q (F0 m pc ls (vI n :: vI dp :: .ref a1 :: vI sp :: .ref a0 :: rest)) := by
  subst hR
  obtain ⟨n0, n1, f, g, h0, h1, ⟨b0, b1, b2, b3, b4, b5, b6⟩, hF⟩ := hE
  obtain ⟨q0, g0⟩ := lst_at h0 (hW.1.lt h0)
  obtain ⟨q1, g1⟩ := lst_at h1 (hW.1.lt h1)
  obtain ⟨z0, z1⟩ := nn32 (x := sp) ⟨b2, by omega⟩
  obtain ⟨z2, z3⟩ := nn32 (x := dp) ⟨b3, by omega⟩
  obtain ⟨z4, z5⟩ := nn32 (x := n) ⟨b4, by omega⟩
  have hfr : 1 ≤ (rmA (dd + 1) mc ms).frames := by show 1 ≤ dd + 1; omega
  have hw : nativeFrameWords "java/lang/System" "arraycopy" 5 ≤ 20 := by decide +kernel
  have hlo : (rest.map fun v => v.category).sum + (nativeFrameWords "java/lang/System" "arraycopy" 5 + 11) ≤ (rmA (dd + 1) mc ms).locals := by
    show _ ≤ 48 * (dd + 1)
    omega
  refine va_copyi X.hx X.hb (X.1.2.2.1.trans hl.symm) X.ho (X.ht _ hq) (X.ht _ q446) (X.ht _ q445) (X.ht _ q147) X.hK.1 hW.1.P hW.1.D (hW.1.S hW.2) q0 q1 0 0 g0 g1 rfl rfl rfl z0 z2 z4 (by rw [z1, z5]; omega) (by rw [z3, z5]; omega) (fun _ _ => rfl) hfr hlo hdg (fun H1 locs1 hP _ hS => ?_)
  rw [z1, z3, z5] at hP
  exact kk _ hF H1 locs1 (hW.1.set g1 hP hS)
end ARR
section NEST
variable {p : Program} {l : Launch} {e : Env} {s : State} {m : MethodId} {args : Array Value} {below : List Frame} {meth : Method} {c : Code} {H : Heap} {locs : List Loc} {cells slots : Nat} {Q : State → Prop} {cc : ByteArray} {nL : Nat} {own : String} {ret : Option FieldType} {G : GG} {pc : Nat} {ls : Array Slot} {rest : List Value} {index a : Nat} {hp : HP}
theorem h_callSNI {host : String} {dd d1 n maxL mc ms mcR msR : Nat} {y : MethodName} {bytes : ByteArray} {ry : Option FieldType} {As st0 : List Value} {q : Int → HP → Prop} (X : CX p s m args meth c cc nL own ret G) (hW : WH G hp H locs) (hMet : MH l y (ws_ y bytes maxL ry) d1 mc ms G As hp (pI q)) (hq1 : Cond.methodLinkNest own index y host ∈ lw_tbl) (hq2 : Cond.static y ∈ lw_all) (hq3 : Cond.initialized y.cls ∈ lw_all) (hq4 : Cond.code y bytes maxL ry ∈ lw_all) (hd : y.cls ≠ "java/lang/invoke/MethodHandle" ∧ y.cls ≠ "java/lang/invoke/VarHandle" ∧ (parseMethodDescriptor y.desc).map (fun d => d.parameters.length) = some n) (hdd : d1 + 1 ≤ dd) (hmx : maxL ≤ 29) (hn : As.length = n) (hl : ls.size = nL) (hst : st0 = As.reverse ++ rest) (hroom : (rest.map fun v => v.category).sum ≤ 8) (hdg : decode cc pc = .ok (.invokestatic index, 3)) (hcs : cells + mc ≤ mcR ∧ slots + ms ≤ msR) (c1 s1 : Nat) (e1 : cells + mc = c1) (e2 : slots + ms = s1) (kk : ∀ (x : Int) (hp1 : HP) (_ : q x hp1) (H1 : Heap) (locs1 : List Loc), WH G hp1 H1 locs1 → W p l e (rmA dd mcR msR) s m args below meth c H1 locs1 c1 s1 Q (F0 m (pc + 3) ls (vI x :: rest))) : W p l e (rmA dd mcR msR) s m args below meth c H locs cells slots Q (F0 m pc ls st0) := by
  subst e1; subst e2
  refine h_run (va_runSN X.1 hMet ⟨va_cnB n X.ht (lw_meth hq4) rfl rfl rfl (X.hN hq1 rfl) (X.ht _ hq3) hd (cxH hdd hmx), X.ht _ hq2, trivial⟩ ⟨h_blind, fun U hU hWm => ⟨rfl, X.hK.warm hWm, by rw [hU]; exact hW.1⟩⟩ rfl hn hl hst (lv_room hroom) hdg hcs) hW.2 (fun rv hp1 hz H1 locs1 hw => ?_)
  obtain ⟨x, rfl, hz⟩ := hz
  exact kk x hp1 hz H1 locs1 hw
theorem h_callIN {host : String} {dd d1 n maxL mc ms mcR msR : Nat} {y : MethodName} {bytes : ByteArray} {As st0 : List Value} {q : HP → Prop} (X : CX p s m args meth c cc nL own ret G) (hW : WH G hp H locs) (hMet : MH l y (ws_ y bytes maxL none) d1 mc ms G (.ref a :: As) hp (pV q)) (hq1 : Cond.methodLinkNest own index y host ∈ lw_tbl) (hy : y.name = "<init>") (hq2 : Cond.instanceMethod y ∈ lw_all) (hq3 : Cond.initialized y.cls ∈ lw_all) (hq4 : Cond.code y bytes maxL none ∈ lw_all) (hd : y.cls ≠ "java/lang/invoke/MethodHandle" ∧ y.cls ≠ "java/lang/invoke/VarHandle" ∧ (parseMethodDescriptor y.desc).map (fun d => d.parameters.length) = some n) (hdd : d1 + 1 ≤ dd) (hmx : maxL ≤ 29) (hn : As.length = n) (hl : ls.size = nL) (hst : st0 = As.reverse ++ .ref a :: rest) (hroom : (rest.map fun v => v.category).sum ≤ 8) (hdg : decode cc pc = .ok (.invokespecial index, 3)) (hcs : cells + mc ≤ mcR ∧ slots + ms ≤ msR) (c1 s1 : Nat) (e1 : cells + mc = c1) (e2 : slots + ms = s1) (kk : ∀ (hp1 : HP) (_ : q hp1) (H1 : Heap) (locs1 : List Loc), WH G hp1 H1 locs1 → W p l e (rmA dd mcR msR) s m args below meth c H1 locs1 c1 s1 Q (F0 m (pc + 3) ls rest)) : W p l e (rmA dd mcR msR) s m args below meth c H locs cells slots Q (F0 m pc ls st0) := by
  subst e1; subst e2
  refine h_run (va_runIN X.1 hMet ⟨va_cnB n X.ht (lw_meth hq4) rfl rfl rfl (X.hN hq1 rfl) (X.ht _ hq3) hd (cxH hdd hmx), hy, X.ht _ hq2⟩ ⟨h_blind, fun U hU hWm => ⟨rfl, X.hK.warm hWm, by rw [hU]; exact hW.1⟩⟩ rfl hn hl hst (lv_room hroom) hdg hcs) hW.2 (fun rv hp1 hz H1 locs1 hw => ?_)
  obtain ⟨rfl, hz⟩ := hz
  exact kk hp1 hz H1 locs1 hw
end NEST
section AASTS
variable {p : Program} {l : Launch} {e : Env} {R : Room} {s : State} {m : MethodId} {args : Array Value} {below : List Frame} {meth : Method} {c : Code} {H : Heap} {locs : List Loc} {cells slots : Nat} {Q : State → Prop} {cc : ByteArray} {nL : Nat} {own : String} {ret : Option FieldType} {G : GG} {pc : Nat} {ls : Array Slot} {rest : List Value} {a : Nat} {hp : HP} {C : String} {T : u_T} {N ci : Nat} {ty : Nat → FieldType}
theorem h_aastS (X : CX p s m args meth c cc nL own ret G) (hW : WH G hp H locs) {i : Int} {t : Nat} (ht : ∀ cA : Nat → ClassId, (TYS cA)[t]? = some (cA t, .object C)) (ck : CK ci C T N ty) {r : Option Nat} {F : HP → Prop} (hE : hsR G hp a t i ci r F) (hdg : decode cc pc = .ok (.aastore, 1)) (kk : ∀ hp1 : HP, F hp1 → ∀ (H1 : Heap) (locs1 : List Loc), WH G hp1 H1 locs1 → W p l e R s m args below meth c H1 locs1 cells slots Q (F0 m (pc + 1) ls rest)) : W p l e R s m args below meth c H locs cells slots Q (F0 m pc ls (va_rf r :: vI i :: .ref a :: rest)) := by
  obtain ⟨n, f, he, hn, hi, hb, hF⟩ := hE
  obtain ⟨i1, i2⟩ := i32_in hi hn
  obtain ⟨q0, h0⟩ := lst_at he (hW.1.lt he)
  rw [← i2] at hF
  cases r with
  | none =>
    refine va_astqN X.hx X.hb X.hK.1 hW.1.P hW.1.D (hW.1.S hW.2) q0 t h0 (ht _) i1 hdg (fun H1 locs1 hP _ hS => ?_)
    exact kk _ hF H1 locs1 (hW.1.set h0 hP hS)
  | some b =>
    obtain ⟨fs, hb⟩ := hb b rfl
    obtain ⟨qk, hk0⟩ := lst_at hb (hW.1.lt hb)
    refine va_astq X.hx X.hb X.hK.1 hW.1.P hW.1.D (hW.1.S hW.2) q0 t qk ci h0 (ht _) hk0 ck.1 i1 hdg (fun H1 locs1 hP _ hS => ?_)
    exact kk _ hF H1 locs1 (hW.1.set h0 hP hS)
end AASTS
theorem MH.mono {l : Launch} {y : MethodName} {ws : List Cond} {d mc ms : Nat} {G : GG} {As : List Value} {hp : HP} {Z Z1 : Option Value → HP → Prop} (h : MH l y ws d mc ms G As hp Z) (hz : ∀ (rv : Option Value) (hp1 : HP), Z rv hp1 → Z1 rv hp1) : MH l y ws d mc ms G As hp Z1 := by
  intro p e ha hc hk s m args below hf happ hP hK
  obtain ⟨n, oc, g1, g2, g3, ⟨rv, hp1, q1, q2, q3⟩, q4⟩ := h p e ha hc hk s m args below hf happ hP hK
  exact ⟨n, oc, g1, g2, g3, ⟨rv, hp1, q1, hz rv hp1 q2, q3⟩, q4⟩
/-- a record's contract seen from the heap -/
theorem MH.ofR {l : Launch} {y : MethodName} {ws : List Cond} {d : Nat} {G : GG} {D : rw_D} {ad : Nat → Nat} {As : List Value} {hp : HP} {M M1 : RM} {rv : Option Value} (hP : RP G D ad M hp) (h : MR l y ws d G D ad hp As M rv M1) : MH l y ws d 0 0 G As hp (fun rv1 hp1 => rv1 = rv ∧ RP G D ad M1 hp1 ∧ Fr D ad hp hp1) := by
  intro p e ha hc hk s m args below hf happ hPc hK
  obtain ⟨hargs, hKG, hW⟩ := hPc
  obtain ⟨n, oc, g1, g2, g3, ⟨q1, hp1, w1, w2, w3⟩, q4⟩ := h p e ha hc hk s m args below hf happ ⟨hargs, hKG, hp, hW, hP, fun _ _ => rfl⟩ hK
  exact ⟨n, oc, g1, g2, g3, ⟨rv, hp1, q1, ⟨rfl, w2, w3⟩, w1⟩, q4⟩
