/-! 31 XEXC: methods that may throw, over the record (mine) -/
/-- a Fault with its place -/
def FT (pl : Int) : List Value := [va_rf none, va_rf none, va_rf none, va_rf none, va_rf none, vI 0, vI pl]
theorem hPut_i {hp : HP} {a ci k : Nat} {v : Value} {F : HP → Prop} {fs : List Value} (h : hp a = some (.inr (ci, fs))) (hk : k < fs.length) (hF : F (hup hp a (.inr (ci, fs.set k v)))) : hPut hp a ci k v F := ⟨fs, h, hk, hF⟩
theorem fault_w {G : GG} {hp : HP} {q : Nat} {pl : Int} (h : hp q = some (.inr (8, df_X8))) : w_X8_init G hp q pl (fun hp1 => hp1 q = some (.inr (8, FT pl)) ∧ ∀ b : Nat, b ≠ q → hp1 b = hp b) := by
  unfold w_X8_init w_J9_init_4 w_J8_init_4 w_J7_init_4
  refine hPut_i h (by decide) ?_
  intro r
  refine hPut_i hup_s (Nat.le_of_ble_eq_true rfl) ?_
  intro r1
  refine hPut_i hup_s (Nat.le_of_ble_eq_true rfl) ?_
  refine ⟨fun _ => ?_, fun hc => (hc w32_0).elim⟩
  refine hPut_i hup_s (Nat.le_of_ble_eq_true rfl) ?_
  refine hPut_i hup_s (Nat.le_of_ble_eq_true rfl) ?_
  refine hPut_i hup_s (Nat.le_of_ble_eq_true rfl) ?_
  refine ⟨fun hc => ?_, fun hc => ?_⟩
  · exact absurd w32_0 hc
  · refine hPut_i hup_s (Nat.le_of_ble_eq_true rfl) ?_
    refine hPut_i hup_s (Nat.le_of_ble_eq_true rfl) ?_
    exact ⟨hup_s, fun b hb => by simp only [hup_n hb]⟩
def XF (G : GG) (E : String) (q : Nat) (pl : Int) (H : Heap) : Prop := E = RX8 → va_at G.1 CLs (q, .inr (8, FT pl)) H ∧ G.2.2.size ≤ q
def TH (G : GG) (s : State) (E : String) (q : Nat) (pl : Int) (H : Heap) : Prop := (∃ ce : Cell, H[q]? = some ce ∧ ce.vm = .none ∧ s.vm.findClass E = some ce.cls) ∧ XF G E q pl H
def XT (G : GG) (ad : Nat → Nat) (E0 : String) (out : (Int ⊕ Int) × RM) : Addr → String → State → State → Prop := fun q E _ t => E = E0 ∧ ∃ pl : Int, out.1 = .inr pl ∧ XF G E0 q pl t.heap ∧ XWh G ad out.2 t.heap
def ZN (wr : Int → Option Value) (out : (Int ⊕ Int) × RM) : Option Value → RM → Prop := fun rv M1 => ∃ v : Int, out.1 = .inl v ∧ rv = wr v ∧ M1 = out.2
def MXE (l : Launch) (y : MethodName) (ws : List Cond) (d mc ms : Nat) (G : GG) (ad : Nat → Nat) (As : List Value) (M : RM) (E0 : String) (wr : Int → Option Value) (out : (Int ⊕ Int) × RM) : Prop :=
  vx_Met l y ws (rmA d mc ms) (va_Pc As (fun U => KG G U ∧ XWh G ad M U.heap)) (fun _ _ oc t => ∃ (rv : Option Value) (M1 : RM), oc = .returned rv ∧ ZN wr out rv M1 ∧ XWh G ad M1 t.heap) (XT G ad E0 out) mc ms (fun q => G.2.2.size ≤ q)
def QXE (below : List Frame) (G : GG) (ad : Nat → Nat) (args : Array Value) (s : State) (mc ms : Nat) (E0 : String) (wr : Int → Option Value) (out : (Int ⊕ Int) × RM) : State → Prop :=
  vx_MQ below (fun _ _ oc t => ∃ (rv : Option Value) (M1 : RM), oc = .returned rv ∧ ZN wr out rv M1 ∧ XWh G ad M1 t.heap) (XT G ad E0 out) args s mc ms (fun q => G.2.2.size ≤ q)
/-- returned, or thrown -/
def tc {α : Type} (r : Int ⊕ Int) (A B : Int → Option α) : Option α := match r with
  | .inl v => A v
  | .inr pl => B pl
theorem va_at.keep {D : va_G} {cl : List vw_C} {q : Nat} {e : va_E} {H H1 : Heap} (h : va_at D cl (q, e) H) (hq : H1[q]? = H[q]?) : va_at D cl (q, e) H1 := by
  cases e with
  | inl a =>
    have h : H[q]? = some (vp_cell a.1 a.2) := h
    show H1[q]? = some (vp_cell a.1 a.2)
    rw [hq]; exact h
  | inr o =>
    obtain ⟨r, h1, cell, h2, h3⟩ := h
    exact ⟨r, h1, cell, by rw [hq]; exact h2, h3⟩
theorem WR.grow {G : GG} {hp : HP} {H H1 : Heap} (h : WR G hp H) (hs : H.size ≤ H1.size) (hq : ∀ q : Nat, q < H.size → H1[q]? = H[q]?) : WR G hp H1 :=
  ⟨Nat.le_trans h.1 hs, fun q hq1 => (hq q (Nat.lt_of_lt_of_le hq1 h.1)).trans (h.2.1 q hq1), fun a e ha => ⟨(h.2.2 a e ha).1, (h.2.2 a e ha).2.keep (hq a (h.lt ha))⟩⟩
theorem WR.less {G : GG} {hp hp1 : HP} {H : Heap} (h : WR G hp1 H) (hq : ∀ (a : Nat) (e : va_E), hp a = some e → hp1 a = some e) : WR G hp H := ⟨h.1, h.2.1, fun a e ha => h.2.2 a e (hq a e ha)⟩
theorem XWh.grow {G : GG} {ad : Nat → Nat} {M : RM} {H H1 : Heap} (h : XWh G ad M H) (hs : H.size ≤ H1.size) (hq : ∀ q : Nat, q < H.size → H1[q]? = H[q]?) : XWh G ad M H1 := by
  obtain ⟨hp, h1, h2⟩ := h
  exact ⟨hp, h1.grow hs hq, h2⟩
/-- the world, and a Fault in the making beside it -/
def XFo (G : GG) (ad : Nat → Nat) (hp0 : HP) (M : RM) (q : Nat) (fs : List Value) (H : Heap) (locs : List Loc) : Prop := (∃ hp : HP, hp q = none ∧ WR G (hup hp q (.inr (8, fs))) H ∧ RP G dX ad M hp ∧ Fr dX ad hp0 hp) ∧ LO G locs ∧ DY G ad (vw M) hp0
theorem XFo.xr {G : GG} {ad : Nat → Nat} {hp0 : HP} {M : RM} {q : Nat} {fs : List Value} {H : Heap} {locs : List Loc} (h : XFo G ad hp0 M q fs H locs) : XR G ad hp0 M H locs := by
  obtain ⟨⟨hp, hq, hW, hP, hF⟩, hL, hY⟩ := h
  exact ⟨⟨⟨hp, hW.less (fun a e ha => by rw [hup_n (fun z => by rw [z, hq] at ha; cases ha)]; exact ha), hP, hF⟩, hL⟩, hY⟩
section XEX
variable {p : Program} {l : Launch} {e : Env} {R : Room} {s : State} {m : MethodId} {args : Array Value} {below : List Frame} {meth : Method} {c : Code} {H : Heap} {locs : List Loc} {cells slots : Nat} {Q : State → Prop} {cc : ByteArray} {nL : Nat} {own : String} {ret : Option FieldType} {G : GG} {pc : Nat} {ls : Array Slot} {rest : List Value} {C : String} {T : u_T} {N ci : Nat} {ty : Nat → FieldType} {index : Nat} {hp0 : HP} {M : RM} {ad : Nat → Nat} {E0 : String} {wr : Int → Option Value} {out : (Int ⊕ Int) × RM} {mc ms : Nat}
theorem XFo.th (X : CX p s m args meth c cc nL own ret G) {q : Nat} {pl : Int} (h : XFo G ad hp0 M q (FT pl) H locs) : TH G s RX8 q pl H := by
  obtain ⟨⟨hp, hq, hW, hP, hF⟩, hL, hY⟩ := h
  have h1 := hW.2.2 q _ hup_s
  refine ⟨?_, fun _ => ⟨h1.2, h1.1⟩⟩
  obtain ⟨r, g1, cell, g2, g3, g4, -⟩ := h1.2
  have hck : CLs[8]? = some (RX8, _, _) := ck_X8.1
  cases Option.some.inj (g1.symm.trans hck)
  exact ⟨cell, g2, g4, by rw [g3]; exact (X.hK.1.1 8 _ hck).2.1⟩
theorem x_newF (X : CX p s m args meth c cc nL own ret G) (hX : XR G ad hp0 M H locs) (hq1 : Cond.classLink own index RX8 ∈ lw_all) (hc : cells + 1 ≤ R.cells) (hs : slots + 7 ≤ R.slots) (c1 s1 : Nat) (e1 : cells + 1 = c1) (e2 : slots + 7 = s1) (hdg : decode cc pc = .ok (.new index, 3)) (kk : ∀ (q : Nat) (H1 : Heap) (locs1 : List Loc), XFo G ad hp0 M q df_X8 H1 locs1 → XR G ad hp0 M H1 locs1 → W p l e R s m args below meth c H1 locs1 c1 s1 Q (F0 m (pc + 3) ls (.ref q :: rest))) : W p l e R s m args below meth c H locs cells slots Q (F0 m pc ls rest) := by
  obtain ⟨⟨⟨hp, hW, hP, hF⟩, hL⟩, hY⟩ := hX
  refine h_new X (hp := hp) (F := fun hp1 q => hp q = none ∧ hp1 = hup hp q (.inr (8, df_X8))) ⟨hW, hL⟩ ck_X8 (fun q hq => ⟨hq, rfl⟩) hq1 q1989 q179 dflt_X8 hc hs c1 s1 e1 e2 hdg (fun hp1 q hq H1 locs1 hW1 => ?_)
  obtain ⟨hq, rfl⟩ := hq
  have h1 : XFo G ad hp0 M q df_X8 H1 locs1 := ⟨⟨hp, hq, hW1.1, hP, hF⟩, hW1.2, hY⟩
  exact kk q H1 locs1 h1 h1.xr
theorem x_callF {dd n mcR msR : Nat} {q : Nat} {pl : Int} {st0 : List Value} (X : CX p s m args meth c cc nL own ret G) (hX : XFo G ad hp0 M q df_X8 H locs) (cw : CallB (rmA dd mcR msR) s args own index yX8_init cX8_init 2 none (ws_ yX8_init cX8_init 2 none) (rmA 4 0 0) 0 0 n ∧ yX8_init.name = "<init>" ∧ (Cond.instanceMethod yX8_init).before args s = true) (hn : 1 = n) (hl : ls.size = nL) (hst : st0 = vI pl :: .ref q :: rest) (hroom : (rest.map fun v => v.category).sum ≤ 8) (hdg : decode cc pc = .ok (.invokespecial index, 3)) (hcs : cells ≤ mcR ∧ slots ≤ msR) (kk : ∀ (H1 : Heap) (locs1 : List Loc), XR G ad hp0 M H1 locs1 → TH G s RX8 q pl H1 → W p l e (rmA dd mcR msR) s m args below meth c H1 locs1 cells slots Q (F0 m (pc + 3) ls rest)) : W p l e (rmA dd mcR msR) s m args below meth c H locs cells slots Q (F0 m pc ls st0) := by
  obtain ⟨⟨hp, hq, hW, hP, hF⟩, hL, hY⟩ := hX
  refine h_callI (As := [vI pl]) X (hp := hup hp q (.inr (8, df_X8))) ⟨hW, hL⟩ (mh_X8_init l G _ q pl _ (fault_w hup_s)) cw hn hl hst hroom hdg hcs cells slots rfl rfl (fun hp1 h1 H1 locs1 hW1 => ?_)
  have e : hp1 = hup hp q (.inr (8, FT pl)) := by
    funext b
    by_cases hb : b = q
    · subst hb; rw [h1.1, hup_s]
    · rw [h1.2 b hb, hup_n hb, hup_n hb]
  rw [e] at hW1
  have h2 : XFo G ad hp0 M q (FT pl) H1 locs1 := ⟨⟨hp, hq, hW1.1, hP, hF⟩, hW1.2, hY⟩
  exact kk H1 locs1 h2.xr (h2.th X)
/-- not caught here -/
theorem x_out (X : CX p s m args meth c cc nL own ret G) (hout : ∀ x ∈ c.exceptionTable.toList, covers x pc = false) (hX : XR G ad hp0 M H locs) {q : Nat} {pl : Int} (hT : TH G s E0 q pl H) (ho : out = (.inr pl, M)) (h1 : cells ≤ mc) (h2 : slots ≤ ms) : vx_W p l e R s m args below meth c H locs cells slots (QXE below G ad args s mc ms E0 wr out) (F0 m pc ls rest) q := by
  obtain ⟨⟨ce, g1, g2, g3⟩, hF⟩ := hT
  subst ho
  exact vx_out hout X.2.2.1 g1 g2 g3 (fun t ht _ => ⟨rfl, pl, rfl, by rw [ht]; exact hF, by rw [ht]; exact hX.wh⟩) hX.1.2 h1 h2
theorem x_athrow (X : CX p s m args meth c cc nL own ret G) {q : Nat} (hdg : decode cc pc = .ok (.athrow, 1)) (kk : vx_W p l e R s m args below meth c H locs cells slots Q (F0 m pc ls rest) q) : W p l e R s m args below meth c H locs cells slots Q (F0 m pc ls (.ref q :: rest)) := vx_athrow X.hx X.hb hdg kk
theorem x_runE {r : Int ⊕ Int} {M1 : RM} {α : Type} {A B : Int → Option α} {o : α} {st0 : List Value} (hr : vx_Run p l e R s m args below meth c H locs cells slots mc ms (F0 m pc ls st0) rest (fun _ oc t => ∃ (rv : Option Value) (M2 : RM), oc = .returned rv ∧ ZN wr (r, M1) rv M2 ∧ XWh G ad M2 t.heap) (XT G ad E0 (r, M1)) (fun q => G.2.2.size ≤ q)) (hL : LO G locs) (hE : tc r A B = some o)
    (kk : ∀ v : Int, A v = some o → ∀ (hp1 : HP) (H1 : Heap) (locs1 : List Loc), XR G ad hp1 M1 H1 locs1 → W p l e R s m args below meth c H1 locs1 (cells + mc) (slots + ms) Q (F0 m (pc + 3) ls ((wr v).toList ++ rest)))
    (kx : ∀ pl : Int, B pl = some o → ∀ (q : Nat) (hp1 : HP) (H1 : Heap) (locs1 : List Loc), XR G ad hp1 M1 H1 locs1 → TH G s E0 q pl H1 → vx_W p l e R s m args below meth c H1 locs1 (cells + mc) (slots + ms) Q (F0 m pc ls rest) q) : W p l e R s m args below meth c H locs cells slots Q (F0 m pc ls st0) := by
  intro T hT X
  rcases hr T hT X with ⟨v, st₀, t, T', L, h0, X', hL', e1, e2, ⟨rv, M2, hv, ⟨v1, hz, rfl, rfl⟩, hw⟩, st⟩ | ⟨q, st₀, t, T', L, E, ce, h0, X', hL', e1, e2, ⟨rfl, pl, hz, hF, hw⟩, hce, hcv, hcl, st⟩
  · cases hv
    have hz : r = .inl v1 := hz
    subst hz
    obtain ⟨hp1, hX⟩ := hw.xr (locs := locs ++ L) (fun q hq => (List.mem_append.mp hq).elim (hL q) (hL' q))
    obtain ⟨t2, a1, b1⟩ := kk v1 hE hp1 T'.heap (locs ++ L) (by rw [e1]; exact hX) T' rfl X'
    exact ⟨t2, st t2 a1, b1⟩
  · have hz : r = .inr pl := hz
    subst hz
    obtain ⟨hp1, hX⟩ := hw.xr (locs := locs ++ L) (fun q hq => (List.mem_append.mp hq).elim (hL q) (hL' q))
    obtain ⟨t2, a1, b1⟩ := kx pl hE q hp1 T'.heap (locs ++ L) (by rw [e1]; exact hX) ⟨⟨ce, by rw [e1]; exact hce, hcv, hcl⟩, by rw [e1]; exact hF⟩ T' rfl X'
    exact ⟨t2, st.trans a1, b1⟩
theorem x_callVE {α : Type} {A B : Int → Option α} {o1 : α} {r : Int ⊕ Int} {M1 : RM} {dd d1 n maxL mcR msR : Nat} {y : MethodName} {bytes : ByteArray} {ry : Option FieldType} {As st0 : List Value} (X : CX p s m args meth c cc nL own ret G) (hX : XR G ad hp0 M H locs) (o : Nat) {fds : List (Nat × Nat)} (hd : dX o = some (.inr (ci, fds))) (ck : CK ci C T N ty) (hMet : MXE l y (ws_ y bytes maxL ry) d1 mc ms G ad (.ref (ad o) :: As) M E0 wr (r, M1)) (cw : CallW (rmA dd mcR msR) s args own C index y bytes maxL ry (ws_ y bytes maxL ry) (rmA d1 mc ms) mc ms n) (hE : tc r A B = some o1) (hn : As.length = n) (hl : ls.size = nL) (hst : st0 = As.reverse ++ .ref (ad o) :: rest) (hroom : (rest.map fun v => v.category).sum ≤ 8) (hdg : decode cc pc = .ok (.invokevirtual index, 3)) (hcs : cells + mc ≤ mcR ∧ slots + ms ≤ msR) (c1 s1 : Nat) (e1 : cells + mc = c1) (e2 : slots + ms = s1)
    (kk : ∀ v : Int, A v = some o1 → ∀ (hp1 : HP) (H1 : Heap) (locs1 : List Loc), XR G ad hp1 M1 H1 locs1 → W p l e (rmA dd mcR msR) s m args below meth c H1 locs1 c1 s1 Q (F0 m (pc + 3) ls ((wr v).toList ++ rest)))
    (kx : ∀ pl : Int, B pl = some o1 → ∀ (q : Nat) (hp1 : HP) (H1 : Heap) (locs1 : List Loc), XR G ad hp1 M1 H1 locs1 → TH G s E0 q pl H1 → vx_W p l e (rmA dd mcR msR) s m args below meth c H1 locs1 c1 s1 Q (F0 m pc ls rest) q) : W p l e (rmA dd mcR msR) s m args below meth c H locs cells slots Q (F0 m pc ls st0) := by
  subst e1; subst e2
  obtain ⟨hp, hW, he⟩ := hX.1.cell hd
  exact x_runE (vx_runV X.1 hMet cw ⟨x_blind, va_recv X.hK.1 (hW.one he) (ci := ci) (q0 := 0) ck.1 rfl, fun U hU hWm => ⟨rfl, X.hK.warm hWm, by rw [hU]; exact hX.wh⟩⟩ rfl hn hl hst (lv_room hroom) hdg hcs) hX.1.2 hE kk kx
theorem x_callSE {α : Type} {A B : Int → Option α} {o1 : α} {r : Int ⊕ Int} {M1 : RM} {dd d1 n maxL mcR msR : Nat} {y : MethodName} {bytes : ByteArray} {ry : Option FieldType} {As st0 : List Value} (X : CX p s m args meth c cc nL own ret G) (hX : XR G ad hp0 M H locs) (hMet : MXE l y (ws_ y bytes maxL ry) d1 mc ms G ad As M E0 wr (r, M1)) (cw : CallB (rmA dd mcR msR) s args own index y bytes maxL ry (ws_ y bytes maxL ry) (rmA d1 mc ms) mc ms n ∧ (Cond.static y).before args s = true) (hE : tc r A B = some o1) (hn : As.length = n) (hl : ls.size = nL) (hst : st0 = As.reverse ++ rest) (hroom : (rest.map fun v => v.category).sum ≤ 8) (hdg : decode cc pc = .ok (.invokestatic index, 3)) (hcs : cells + mc ≤ mcR ∧ slots + ms ≤ msR) (c1 s1 : Nat) (e1 : cells + mc = c1) (e2 : slots + ms = s1)
    (kk : ∀ v : Int, A v = some o1 → ∀ (hp1 : HP) (H1 : Heap) (locs1 : List Loc), XR G ad hp1 M1 H1 locs1 → W p l e (rmA dd mcR msR) s m args below meth c H1 locs1 c1 s1 Q (F0 m (pc + 3) ls ((wr v).toList ++ rest)))
    (kx : ∀ pl : Int, B pl = some o1 → ∀ (q : Nat) (hp1 : HP) (H1 : Heap) (locs1 : List Loc), XR G ad hp1 M1 H1 locs1 → TH G s E0 q pl H1 → vx_W p l e (rmA dd mcR msR) s m args below meth c H1 locs1 c1 s1 Q (F0 m pc ls rest) q) : W p l e (rmA dd mcR msR) s m args below meth c H locs cells slots Q (F0 m pc ls st0) := by
  subst e1; subst e2
  exact x_runE (vx_runS X.1 hMet cw ⟨x_blind, fun U hU hWm => ⟨rfl, X.hK.warm hWm, by rw [hU]; exact hX.wh⟩⟩ rfl hn hl hst (lv_room hroom) hdg hcs) hX.1.2 hE kk kx
/-- caught here -/
theorem x_catch {name : String} (X : CX p s m args meth c cc nL own ret G) {q : Nat} {pl : Int} (hT : TH G s E0 q pl H) (pre : List ExceptionTableEntry) (x : ExceptionTableEntry) (suf : List ExceptionTableEntry) (hsplit : c.exceptionTable.toList = pre ++ x :: suf) (hpass : ∀ z ∈ pre, covers z pc = false ∨ (z.catchType ≠ 0 ∧ ∃ nm : String, (Cond.classLink own z.catchType nm).before args s = true ∧ va_Nc E0 nm s)) (hx : covers x pc = true) (h0 : x.catchType ≠ 0) (hlink : Cond.classLink own x.catchType name ∈ lw_all) (hcast : Cond.castable E0 name ∈ lw_tbl)
    (kk : W p l e R s m args below meth c H locs cells slots Q (F0 m x.handlerPc ls [.ref q])) : vx_W p l e R s m args below meth c H locs cells slots Q (F0 m pc ls rest) q := by
  obtain ⟨⟨ce, g1, g2, g3⟩, -⟩ := hT
  exact vx_catch X.ho pre x suf hsplit hpass hx h0 (X.ht _ hlink) (X.any hcast (Or.inr ⟨rfl, rfl⟩)) g1 g2 g3 kk
/-- a Fault's place -/
theorem x_place (X : CX p s m args meth c cc nL own ret G) (hX : XR G ad hp0 M H locs) {q : Nat} {pl : Int} (hT : TH G s RX8 q pl H) {host : String} (hq : Cond.fieldLinkNest own index RX8 "place" "I" host ∈ lw_tbl) (hdg : decode cc pc = .ok (.getfield index, 3)) (kk : W p l e R s m args below meth c H locs cells slots Q (F0 m (pc + 3) ls (vI pl :: rest))) : W p l e R s m args below meth c H locs cells slots Q (F0 m pc ls (.ref q :: rest)) := by
  obtain ⟨⟨⟨hp, hW, -, -⟩, hL⟩, -⟩ := hX
  obtain ⟨h1, h2⟩ := hT.2 rfl
  have hW1 : WR G (fun b => if b = q then some (.inr (8, FT pl)) else none) H := ⟨hW.1, hW.2.1, fun a e ha => by
    have ha : (if a = q then some (Sum.inr (8, FT pl)) else none) = some e := ha
    by_cases g : a = q
    · subst g
      rw [if_pos rfl] at ha
      cases ha
      exact ⟨h2, h1⟩
    · rw [if_neg g] at ha; cases ha⟩
  exact h_getNI X ⟨hW1, hL⟩ ck_X8 (k := 6) (F := fun x => x = pl) ⟨FT pl, pl, if_pos rfl, rfl, rfl⟩ (by decide) hq (fun _ h => h) hdg (fun x hx => by subst hx; exact kk)
end XEX
