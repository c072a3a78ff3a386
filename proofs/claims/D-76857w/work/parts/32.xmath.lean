/-! 32 XMATH: contracts that may throw; what Math throws (mine) -/
theorem vk_ex {own tx : String} {k : Nat} {A : Array Value} {U : State} (h : (Cond.stringRef own k tx).before A U = true) : ∃ a : Nat, vk_R own k tx a U := by
  cases hc : U.vm.findClass own with
  | none =>
    simp only [Cond.before, Cond.holds, Cond.value, hc] at h
    simp at h
  | some cur =>
    obtain ⟨_, _, _, a, -, -, -, -, -, ha⟩ := Cond.stringRef_spec hc h
    exact ⟨a, vk_R.of h ha⟩
theorem SX.str {G : GG} {U : State} (h : SX G U) {own tx : String} {k : Nat} (hw : Cond.stringRef own k tx ∈ lw_tbl) : ∃ a : Nat, vk_R own k tx a U := by
  obtain ⟨s0, b, h0, hW, h1, hb, hg⟩ := h
  obtain ⟨a, ha⟩ := vk_ex (h1 _ hw)
  exact ⟨a, ha.warm hW⟩
theorem vx_ofWF {l : Launch} {y : MethodName} {ws ws' : List Cond} {rm : Room} {Pc : Array Value → State → Prop} {Qc : Array Value → State → Outcome → State → Prop} {XC : Addr → String → State → State → Prop} {mc ms : Nat} {free : Addr → Prop} {cc : ByteArray} {maxL : Nat} {ret : Option FieldType}
    (hy : plainFor y = true) (hw : ws = Cond.code y cc maxL ret :: ws')
    (body : ∀ p e s m args below meth c s₁, BodyLoose p l y (headSpec ws rm) cc maxL ret e s m args below meth c s₁ → c.maxLocals = maxL → (∀ x ∈ c.exceptionTable.toList, False) → Pc args s →
      W p l e (headSpec ws rm).room s m args below meth c s.heap [] 0 0 (vx_MQ below Qc XC args s mc ms free) (entryFrame m args maxL)) : vx_Met l y ws rm Pc Qc XC mc ms free := by
  refine MetFree.of_bodySF (code := cc) (maxLocals := maxL) (ret := ret) hy ?_ ?_
  · intro args s m h hn
    obtain ⟨meth, c, h1, h2, h3, h4, h5, h6, -, -⟩ := Cond.code_spec hn (atoms_spec (ws := ws) h _ (by rw [hw]; exact List.mem_cons_self))
    exact ⟨meth, c, h1, h2, h3, h4, h5, h6⟩
  · intro p e s m args below meth c s₁ B hml hP _
    have hh0 : s₁.heap = s.heap := by rw [B.state]; rfl
    have ht : ∀ x ∈ c.exceptionTable.toList, False := by
      obtain ⟨meth9, c9, h1, h2, -, -, -, -, h7, -⟩ := Cond.code_spec B.named (atoms_spec (ws := ws) B.pre _ (by rw [hw]; exact List.mem_cons_self))
      cases Option.some.inj (h1.symm.trans B.method)
      cases Option.some.inj (h2.symm.trans (Stand.of_body B).code)
      intro x hx
      rw [Array.isEmpty_iff.mp h7] at hx
      cases hx
    obtain ⟨t, a1, o, b1, b2, b3⟩ := body p e s m args below meth c s₁ B hml ht hP s₁ hh0 (Stand.of_body B)
    exact ⟨t, o, a1, b1, b2, b3⟩
theorem vx_ofWHF {l : Launch} {y : MethodName} {ws ws' : List Cond} {rm : Room} {Pc : Array Value → State → Prop} {Qc : Array Value → State → Outcome → State → Prop} {XC : Addr → String → State → State → Prop} {mc ms : Nat} {free : Addr → Prop} {cc : ByteArray} {maxL : Nat} {ret : Option FieldType} {hh : List (Nat × Nat × Nat × Nat)}
    (hy : plainFor y = true) (hw : ws = Cond.codeWith y cc maxL ret hh :: ws')
    (body : ∀ p e s m args below meth c s₁, BodyLoose p l y (headSpec ws rm) cc maxL ret e s m args below meth c s₁ → c.maxLocals = maxL → c.exceptionTable.toList = tableOf hh → Pc args s →
      W p l e (headSpec ws rm).room s m args below meth c s.heap [] 0 0 (vx_MQ below Qc XC args s mc ms free) (entryFrame m args maxL)) : vx_Met l y ws rm Pc Qc XC mc ms free := by
  refine MetFree.of_bodySF (code := cc) (maxLocals := maxL) (ret := ret) hy ?_ ?_
  · intro args s m h hn
    obtain ⟨m9, meth, c, hn9, h1, h2, h3, h4, -, h5, h6, -⟩ := Cond.codeWith_spec (atoms_spec (ws := ws) h _ (by rw [hw]; exact List.mem_cons_self))
    cases hn.symm.trans hn9
    exact ⟨meth, c, h1, h2, h3, h4, h5, h6⟩
  · intro p e s m args below meth c s₁ B hml hP _
    have hh0 : s₁.heap = s.heap := by rw [B.state]; rfl
    obtain ⟨t, a1, o, b1, b2, b3⟩ := body p e s m args below meth c s₁ B hml (vx_table (x := y) B (atoms_spec (ws := ws) B.pre _ (by rw [hw]; exact List.mem_cons_self))) hP s₁ hh0 (Stand.of_body B)
    exact ⟨t, o, a1, b1, b2, b3⟩
/-- a method with a table that lets nothing out -/
theorem Met.ofX {l : Launch} {y : MethodName} {ws : List Cond} {rm : Room} {Pc : Array Value → State → Prop} {Qc : Array Value → State → Outcome → State → Prop} {mc ms : Nat} {free : Addr → Prop} (h : vx_Met l y ws rm Pc Qc (fun _ _ _ _ => False) mc ms free) : Met l y ws rm Pc Qc mc ms free := by
  refine MetFree.mono h (fun _ _ h => h) (fun _ _ _ _ _ h => h) (fun a s o t _ hq => ?_)
  rcases hq with hq | ⟨q, -, E, ce, L, hx, -⟩
  · exact hq
  · exact hx.elim
def lUshr (x y : Int) : Int := ((Int64.ofInt x).toUInt64 >>> ((Int32.ofInt y).toInt64.toUInt64 &&& Int64.toUInt64 63)).toInt64.toInt
def lDiv (x y : Int) : Int := (Int64.ofInt x / Int64.ofInt y).toInt
section XMA
variable {l : Launch} {cc : ByteArray} {nL : Nat} {ret : Option FieldType} {G : GG} {ad : Nat → Nat} {M : RM}
theorem MXE.of {y : MethodName} {d mc ms : Nat} {vs : List Value} {lv : List (Nat × Value)} {E0 : String} {wr : Int → Option Value} {out : (Int ⊕ Int) × RM} (hy : plainFor y = true) (hn : (lg_sl vs).length ≤ nL) (hlv : lv_args 0 vs = lv)
    (body : ∀ (p : Program) (e : Env) (s : State) (m : MethodId) (below : List Frame) (meth : Method) (c : Code) (ls : Array Slot) (hp0 : HP), CX p s m vs.toArray meth c cc nL y.cls ret G → (∀ x ∈ c.exceptionTable.toList, False) → (∃ hpS : HP, WR G hpS s.heap) → XR G ad hp0 M s.heap [] → lv_has ls nL lv → W p l e (rmA d mc ms) s m vs.toArray below meth c s.heap [] 0 0 (QXE below G ad vs.toArray s mc ms E0 wr out) (F0 m 0 ls [])) : MXE l y (ws_ y cc nL ret) d mc ms G ad vs M E0 wr out := by
  refine vx_ofWF (cc := cc) (maxL := nL) (ret := ret) hy rfl ?_
  intro p e s m args below meth c s₁ B hml hnx hv
  obtain ⟨rfl, hK, hM⟩ := hv
  have hts := atoms_spec (ws := ws_ y cc nL ret) B.pre
  have hl := lv_entry vs (n := nL) hn
  rw [lg_entry_eq]
  generalize (lg_sl vs ++ List.replicate (nL - (lg_sl vs).length) Slot.unset).toArray = ls at hl ⊢
  rw [hlv] at hl
  obtain ⟨hp0, hX⟩ := hM.xr (locs := []) (fun q h => by cases h)
  obtain ⟨hpS, hS, -⟩ := hM
  exact body p e s m below meth c ls hp0 ⟨⟨B.exec, B.bytes, hml, findClass_of_methodNamed B.named, fun w h => hts w (List.mem_cons_of_mem _ h)⟩, B.returns, B.notSynchronized, hK⟩ hnx ⟨hpS, hS⟩ hX hl
theorem MXE.ofT {y : MethodName} {d mc ms : Nat} {vs : List Value} {lv : List (Nat × Value)} {E0 : String} {wr : Int → Option Value} {out : (Int ⊕ Int) × RM} {hh : List (Nat × Nat × Nat × Nat)} (hy : plainFor y = true) (hn : (lg_sl vs).length ≤ nL) (hlv : lv_args 0 vs = lv)
    (body : ∀ (p : Program) (e : Env) (s : State) (m : MethodId) (below : List Frame) (meth : Method) (c : Code) (ls : Array Slot) (hp0 : HP), CX p s m vs.toArray meth c cc nL y.cls ret G → c.exceptionTable.toList = tableOf hh → (∃ hpS : HP, WR G hpS s.heap) → XR G ad hp0 M s.heap [] → lv_has ls nL lv → W p l e (rmA d mc ms) s m vs.toArray below meth c s.heap [] 0 0 (QXE below G ad vs.toArray s mc ms E0 wr out) (F0 m 0 ls [])) : MXE l y (wsW_ y cc nL ret hh) d mc ms G ad vs M E0 wr out := by
  refine vx_ofWHF (cc := cc) (maxL := nL) (ret := ret) (hh := hh) hy rfl ?_
  intro p e s m args below meth c s₁ B hml hnx hv
  obtain ⟨rfl, hK, hM⟩ := hv
  have hts := atoms_spec (ws := wsW_ y cc nL ret hh) B.pre
  have hl := lv_entry vs (n := nL) hn
  rw [lg_entry_eq]
  generalize (lg_sl vs ++ List.replicate (nL - (lg_sl vs).length) Slot.unset).toArray = ls at hl ⊢
  rw [hlv] at hl
  obtain ⟨hp0, hX⟩ := hM.xr (locs := []) (fun q h => by cases h)
  obtain ⟨hpS, hS, -⟩ := hM
  exact body p e s m below meth c ls hp0 ⟨⟨B.exec, B.bytes, hml, findClass_of_methodNamed B.named, fun w h => hts w (List.mem_cons_of_mem _ h)⟩, B.returns, B.notSynchronized, hK⟩ hnx ⟨hpS, hS⟩ hX hl
/-- a method with a table that catches all -/
theorem MX.ofT {y : MethodName} {d mc ms : Nat} {vs : List Value} {lv : List (Nat × Value)} {Z : Option Value → RM → Prop} {hh : List (Nat × Nat × Nat × Nat)} (hy : plainFor y = true) (hn : (lg_sl vs).length ≤ nL) (hlv : lv_args 0 vs = lv)
    (body : ∀ (p : Program) (e : Env) (s : State) (m : MethodId) (below : List Frame) (meth : Method) (c : Code) (ls : Array Slot) (hp0 : HP), CX p s m vs.toArray meth c cc nL y.cls ret G → c.exceptionTable.toList = tableOf hh → (∃ hpS : HP, WR G hpS s.heap) → XR G ad hp0 M s.heap [] → lv_has ls nL lv → W p l e (rmA d mc ms) s m vs.toArray below meth c s.heap [] 0 0 (QX below G ad vs.toArray s mc ms Z) (F0 m 0 ls [])) : MX l y (wsW_ y cc nL ret hh) d mc ms G ad vs M Z := by
  refine Met.ofX (vx_ofWHF (cc := cc) (maxL := nL) (ret := ret) (hh := hh) hy rfl ?_)
  intro p e s m args below meth c s₁ B hml hnx hv
  obtain ⟨rfl, hK, hM⟩ := hv
  have hts := atoms_spec (ws := wsW_ y cc nL ret hh) B.pre
  have hl := lv_entry vs (n := nL) hn
  rw [lg_entry_eq]
  generalize (lg_sl vs ++ List.replicate (nL - (lg_sl vs).length) Slot.unset).toArray = ls at hl ⊢
  rw [hlv] at hl
  obtain ⟨hp0, hX⟩ := hM.xr (locs := []) (fun q h => by cases h)
  obtain ⟨hpS, hS, -⟩ := hM
  exact vx_ret (body p e s m below meth c ls hp0 ⟨⟨B.exec, B.bytes, hml, findClass_of_methodNamed B.named, fun w h => hts w (List.mem_cons_of_mem _ h)⟩, B.returns, B.notSynchronized, hK⟩ hnx ⟨hpS, hS⟩ hX hl)
end XMA
def AE : String := "java/lang/ArithmeticException"
def AEn : List String := ["java/lang/RuntimeException", "java/lang/Exception"]
def okw (w : Cond) : Bool := decide (w ∈ lw_tbl) && (goodWord w || (twOk w && w.onTables))
theorem okw_s {w : Cond} (h : okw w = true) : w ∈ lw_tbl ∧ (goodWord w = true ∨ (twOk w = true ∧ w.onTables = true)) := by
  unfold okw at h
  simp only [Bool.and_eq_true, Bool.or_eq_true, decide_eq_true_eq] at h
  exact h
theorem ae_words : (Cond.classLink RJ16 109 AE :: Cond.initialized AE :: vx_atS RJ16 113 AE AEn).all okw = true := by decide +kernel
theorem ae_good : ∀ w ∈ Cond.classLink RJ16 109 AE :: Cond.initialized AE :: vx_atS RJ16 113 AE AEn, vx_ot w = true := by decide +kernel
section XMB
variable {p : Program} {l : Launch} {e : Env} {R : Room} {s : State} {m : MethodId} {args : Array Value} {below : List Frame} {meth : Method} {c : Code} {H : Heap} {locs : List Loc} {cells slots : Nat} {Q : State → Prop} {cc : ByteArray} {nL : Nat} {own : String} {ret : Option FieldType} {G : GG} {pc : Nat} {ls : Array Slot} {rest : List Value} {hp0 : HP} {M : RM} {ad : Nat → Nat} {wr : Int → Option Value} {out : (Int ⊕ Int) × RM} {mc ms dd mcR msR : Nat}
theorem e_ldivQ (X : CX p s m args meth c cc nL own ret G) {α : Type} {o : α} {x y : Int} {f : Int → Option α} (hE : (if w64 y = 0 then none else jn (lDiv x y) f) = some o) (hdg : decode cc pc = .ok (.ldiv, 1)) (kk : ∀ v : Int, f v = some o → W p l e R s m args below meth c H locs cells slots Q (F0 m (pc + 1) ls (vL v :: rest))) : W p l e R s m args below meth c H locs cells slots Q (F0 m pc ls (vL y :: vL x :: rest)) := by
  by_cases h : w64 y = 0
  · rw [if_pos h] at hE; cases hE
  · rw [if_neg h] at hE
    refine lv_ldiv X.hx X.hb hdg (fun q => h (by have q2 : Int64.ofInt y = Int64.ofInt 0 := q; rw [i64_eq, w64_0] at q2; exact q2)) ?_
    have k := kk _ hE
    unfold vL lDiv at k
    rw [Int64.ofInt_toInt] at k
    exact k
theorem e_lushr (X : CX p s m args meth c cc nL own ret G) {x y : Int} (hdg : decode cc pc = .ok (.lushr, 1)) (k : W p l e R s m args below meth c H locs cells slots Q (F0 m (pc + 1) ls (vL (lUshr x y) :: rest))) : W p l e R s m args below meth c H locs cells slots Q (F0 m pc ls (vI y :: vL x :: rest)) := lv_lushr X.hx X.hb hdg rfl (by have k := k; unfold vL lUshr at k; rw [Int64.ofInt_toInt] at k; exact k)
theorem x_arith (X : CX p s m args meth c cc nL RJ16 ret G) (hl0 : l.stackTraces = false) (hnx : ∀ x ∈ c.exceptionTable.toList, False) (hS0 : ∃ hpS : HP, WR G hpS s.heap) (hX : XR G ad hp0 M H locs) (hsize : ls.size = nL) (ho : out = (.inr 0, M))
    (d0 : decode cc pc = .ok (.new 109, 3)) (d3 : decode cc (pc + 3) = .ok (.dup, 1)) (d4 : decode cc (pc + 4) = .ok (.ldc 116, 2)) (d6 : decode cc (pc + 6) = .ok (.invokespecial 113, 3)) (d9 : decode cc (pc + 9) = .ok (.athrow, 1))
    (hRf : 6 ≤ (rmA dd mcR msR).frames) (hRl : (rest.map fun v => v.category).sum + 82 ≤ (rmA dd mcR msR).locals) (hRc : cells + 1 ≤ mcR) (hRs : slots + 6 ≤ msR) (h1 : cells + 1 ≤ mc) (h2 : slots + 6 ≤ ms) : W p l e (rmA dd mcR msR) s m args below meth c H locs cells slots (QXE below G ad args s mc ms AE wr out) (F0 m pc ls rest) := by
  have hw : ∀ w ∈ Cond.classLink RJ16 109 AE :: Cond.initialized AE :: vx_atS RJ16 113 AE AEn, w.before args s = true := fun w h => by
    obtain ⟨g1, g2⟩ := okw_s (List.all_eq_true.mp ae_words w h)
    exact X.any g1 g2
  obtain ⟨sa, hsa⟩ := X.hK.sx.str q2257
  obtain ⟨hpS, hS⟩ := hS0
  have hz : ∀ {n d : String}, vx_Zq RJ7 n d (fun a => G.2.2.size ≤ a) s G.2.2 → vx_Zq RJ7 n d (fun a => G.2.2.size ≤ a) s s.heap := fun h => h.kept (fun a ha _ => hS.2.1 a ha)
  intro T hT X0
  have hsz : s.heap.size ≤ H.size := by
    have := (vx_frame X0.same).1
    rw [← hT]; exact this
  have hWH : ∃ hp, WR G hp H := by
    obtain ⟨⟨hp, hW, -⟩, -⟩ := hX.1
    exact ⟨hp, hW⟩
  obtain ⟨hp, hWH⟩ := hWH
  refine vx_throwS (own := RJ16) (cls := AE) (text := "long overflow") (names := AEn) (ik := 109) (is := 116) (ic := 113) (sa := sa) (A := fun a => G.2.2.size ≤ a) X.hx X.hb hl0 X.ho (by decide) (by decide) (hw _ List.mem_cons_self) (hw _ (List.mem_cons_of_mem _ List.mem_cons_self)) hsa (fun w h => hw w (List.mem_cons_of_mem _ (List.mem_cons_of_mem _ h))) ae_good
    (hz (X.hK.sx.zq q312 (lw_all_tbl q136) (by decide +kernel))) (hz (X.hK.sx.zq q314 (lw_all_tbl q136) (by decide +kernel))) ⟨hsz, fun q hq hA => ?_, hX.1.2⟩ ?_ d0 d3 d4 d6 d9 (fun x hx => (hnx x hx).elim) hRf hRl hRc hRs X.2.2.1 (fun q9 t _ g1 g2 => ?_) hX.1.2 h1 h2 T hT X0
  · rw [hS.2.1 q (Nat.not_le.mp hA), hWH.2.1 q (Nat.not_le.mp hA)]
  · rw [hsize]; exact X.1.2.2.1.symm
  · subst ho
    exact ⟨rfl, 0, rfl, fun h => absurd h (by decide), hX.wh.grow g1 g2⟩
end XMB
