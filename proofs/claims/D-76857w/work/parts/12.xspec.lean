/-! 12 X SPEC: heap contracts taken into the x-world; dynamic objects at fixed addresses as receivers -/
set_option maxRecDepth 100000
theorem MX.ofH {l : Launch} {y : MethodName} {ws : List Cond} {d mc ms : Nat} {G : GG} {ad : Nat → Nat} {As : List Value} {M : RM} {Z : Option Value → RM → Prop} (h : ∀ hp : HP, RP G dX ad M hp → DY G ad (vw M) hp → ∃ Zh : Option Value → HP → Prop, MH l y ws d mc ms G As hp Zh ∧ ∀ (rv : Option Value) (hp1 : HP), Zh rv hp1 → ∃ M1 : RM, Z rv M1 ∧ RP G dX ad M1 hp1 ∧ DY G ad (vw M1) hp1) : MX l y ws d mc ms G ad As M Z := by
  intro p e ha hc hk s m args below hf happ hP hK
  obtain ⟨hargs, hKG, hp, hW, hRP, hDY⟩ := hP
  obtain ⟨Zh, hM, hz⟩ := h hp hRP hDY
  obtain ⟨n, oc, g1, g2, g3, ⟨rv, hp1, q1, q2, q3⟩, q4⟩ := hM p e ha hc hk s m args below hf happ ⟨hargs, hKG, hW⟩ hK
  obtain ⟨M1, z1, z2, z3⟩ := hz rv hp1 q2
  exact ⟨n, oc, g1, g2, g3, ⟨rv, M1, q1, z1, hp1, q3, z2, z3⟩, q4⟩
section XSP
variable {p : Program} {l : Launch} {e : Env} {R : Room} {s : State} {m : MethodId} {args : Array Value} {below : List Frame} {meth : Method} {c : Code} {H : Heap} {locs : List Loc} {cells slots : Nat} {Q : State → Prop} {cc : ByteArray} {nL : Nat} {own : String} {ret : Option FieldType} {G : GG} {pc : Nat} {ls : Array Slot} {rest : List Value} {α : Type} {out : α} {C : String} {T : u_T} {N ci : Nat} {ty : Nat → FieldType} {index : Nat} {ref : String} {ad : Nat → Nat} {hp0 : HP} {M : RM} {fds : List (Nat × Nat)}
theorem x_callD1 {dd d1 n maxL mc ms mcR msR : Nat} {y : MethodName} {bytes : ByteArray} {ry : Option FieldType} {As st0 : List Value} {v : Value} {M1 : RM} (X : CX p s m args meth c cc nL own ret G) (hX : XR G ad hp0 M H locs) (o : Nat) (hrec : ∀ hp : HP, DY G ad (vw M) hp → ∃ fs : List Value, hp (ad o) = some (.inr (ci, fs))) (ck : CK ci C T N ty) (hMet : MX l y (ws_ y bytes maxL ry) d1 mc ms G ad (.ref (ad o) :: As) M (Zd (some v) M1)) (cw : CallW (rmA dd mcR msR) s args own C index y bytes maxL ry (ws_ y bytes maxL ry) (rmA d1 mc ms) mc ms n) (hn : As.length = n) (hl : ls.size = nL) (hst : st0 = As.reverse ++ .ref (ad o) :: rest) (hroom : (rest.map fun v => v.category).sum ≤ 8) (hdg : decode cc pc = .ok (.invokevirtual index, 3)) (hcs : cells + mc ≤ mcR ∧ slots + ms ≤ msR) (c1 s1 : Nat) (e1 : cells + mc = c1) (e2 : slots + ms = s1) (kk : ∀ (hp1 : HP) (H1 : Heap) (locs1 : List Loc), XR G ad hp1 M1 H1 locs1 → W p l e (rmA dd mcR msR) s m args below meth c H1 locs1 c1 s1 Q (F0 m (pc + 3) ls (v :: rest))) : W p l e (rmA dd mcR msR) s m args below meth c H locs cells slots Q (F0 m pc ls st0) := by
  subst e1; subst e2
  obtain ⟨hp, hW, hP, hY⟩ := hX.wh
  obtain ⟨fs, he⟩ := hrec hp hY
  exact x_run (va_runV X.1 hMet cw ⟨x_blind, va_recv X.hK.1 (hW.one he) (ci := ci) (q0 := 0) ck.1 rfl, fun U hU hWm => ⟨rfl, X.hK.warm hWm, by rw [hU]; exact hX.wh⟩⟩ rfl hn hl hst (lv_room hroom) hdg hcs) hX.1.2 kk
theorem x_callD0 {dd d1 n maxL mc ms mcR msR : Nat} {y : MethodName} {bytes : ByteArray} {ry : Option FieldType} {As st0 : List Value} {M1 : RM} (X : CX p s m args meth c cc nL own ret G) (hX : XR G ad hp0 M H locs) (o : Nat) (hrec : ∀ hp : HP, DY G ad (vw M) hp → ∃ fs : List Value, hp (ad o) = some (.inr (ci, fs))) (ck : CK ci C T N ty) (hMet : MX l y (ws_ y bytes maxL ry) d1 mc ms G ad (.ref (ad o) :: As) M (Zd none M1)) (cw : CallW (rmA dd mcR msR) s args own C index y bytes maxL ry (ws_ y bytes maxL ry) (rmA d1 mc ms) mc ms n) (hn : As.length = n) (hl : ls.size = nL) (hst : st0 = As.reverse ++ .ref (ad o) :: rest) (hroom : (rest.map fun v => v.category).sum ≤ 8) (hdg : decode cc pc = .ok (.invokevirtual index, 3)) (hcs : cells + mc ≤ mcR ∧ slots + ms ≤ msR) (c1 s1 : Nat) (e1 : cells + mc = c1) (e2 : slots + ms = s1) (kk : ∀ (hp1 : HP) (H1 : Heap) (locs1 : List Loc), XR G ad hp1 M1 H1 locs1 → W p l e (rmA dd mcR msR) s m args below meth c H1 locs1 c1 s1 Q (F0 m (pc + 3) ls rest)) : W p l e (rmA dd mcR msR) s m args below meth c H locs cells slots Q (F0 m pc ls st0) := by
  subst e1; subst e2
  obtain ⟨hp, hW, hP, hY⟩ := hX.wh
  obtain ⟨fs, he⟩ := hrec hp hY
  exact x_run (va_runV X.1 hMet cw ⟨x_blind, va_recv X.hK.1 (hW.one he) (ci := ci) (q0 := 0) ck.1 rfl, fun U hU hWm => ⟨rfl, X.hK.warm hWm, by rw [hU]; exact hX.wh⟩⟩ rfl hn hl hst (lv_room hroom) hdg hcs) hX.1.2 kk
end XSP
theorem vw_v {M : RM} {c : Nat} (h : dX c = none) : vw M c = M c := by
  funext k
  unfold vw
  rw [if_pos (Or.inl h)]
theorem rst_some {own : Nat → Nat} {hp : HP} {a : Nat} {e : va_E} (h : rst own hp a = some e) : own a ≠ 0 ∧ hp a = some e := by
  unfold rst at h
  by_cases g : own a = 0
  · rw [if_pos g] at h; cases h
  · rw [if_neg g] at h; exact ⟨g, h⟩
section HDR
variable {G : GG} {ad : Nat → Nat} {M : RM} {hp : HP}
theorem dy_roadsH (h : DY G ad (vw M) hp) : ∃ (mc : Int) (f t : Option Nat), hp (ad 2) = some (.inr (12, [vI mc, vI (M 2 1), va_rf f, va_rf t])) := by
  obtain ⟨own, -, ⟨-, ns, its, ⟨⟨mc, h1⟩, -⟩, -, -, h2, -⟩, -⟩ := h
  rw [vw_v rfl] at h2
  rw [h2]
  exact ⟨mc, _, _, (rst_some h1).2⟩
theorem dy_waysH (h : DY G ad (vw M) hp) : ∃ (mc : Int) (f t : Option Nat), hp (ad 25) = some (.inr (12, [vI mc, vI (M 25 1), va_rf f, va_rf t])) := by
  obtain ⟨own, -, -, -, ⟨-, ns, its, ⟨⟨mc, h1⟩, -⟩, -, h2, -⟩, -⟩ := h
  rw [vw_v rfl] at h2
  rw [h2]
  exact ⟨mc, _, _, (rst_some h1).2⟩
theorem dy_doneH (h : DY G ad (vw M) hp) : ∃ (h0 n : Nat) (x : (Nat → Int32) ⊕ (Nat → Int64) ⊕ (Nat → UInt32) ⊕ (Nat → UInt64) ⊕ (Nat → Option Nat)), h0 < 15 ∧ n ≤ 13 ∧ M 8 0 = n ∧ hp (ad 8) = some (.inr (20, [.ref (ad 41), vI h0, vI ((h0 + n) % 15 : Nat)])) ∧ hp (ad 41) = some (.inl (G.2.1 4, (15, x))) := by
  obtain ⟨own, -, -, -, -, ⟨-, -, h0, n, g, h1, h2, h3, h4, h5, -⟩, -⟩ := h
  rw [vw_v rfl] at h5
  exact ⟨h0, n, _, h3, h4, h5, (rst_some h1).2, (rst_some h2).2⟩
end HDR
/-- the sizes of the two lists, roads and ways -/
theorem mx_size (l : Launch) (G : GG) (ad : Nat → Nat) (M : RM) (o : Nat) (ho : o = 2 ∨ o = 25) : MX l yJ3_size (ws_ yJ3_size cJ3_size 1 (some .int)) 0 0 0 G ad [.ref (ad o)] M (Zd (some (vI (M o 1))) M) := by
  refine MX.ofH (fun hp hP hY => ⟨_, mh_J3_size l G hp (ad o) (fun x hp1 => x = M o 1 ∧ hp1 = hp) ?_, ?_⟩)
  · rcases ho with rfl | rfl
    · obtain ⟨mc, f, t, h⟩ := dy_roadsH hY
      exact ⟨_, M 2 1, h, rfl, rfl, rfl⟩
    · obtain ⟨mc, f, t, h⟩ := dy_waysH hY
      exact ⟨_, M 25 1, h, rfl, rfl, rfl⟩
  · rintro rv hp1 ⟨x, rfl, rfl, rfl⟩
    exact ⟨M, ⟨rfl, rfl⟩, hP, hY⟩
theorem size_rec {G : GG} {ad : Nat → Nat} {M : RM} {o : Nat} (ho : o = 2 ∨ o = 25) : ∀ hp : HP, DY G ad (vw M) hp → ∃ fs : List Value, hp (ad o) = some (.inr (12, fs)) := fun hp hY => by
  rcases ho with rfl | rfl
  · obtain ⟨mc, f, t, h⟩ := dy_roadsH hY; exact ⟨_, h⟩
  · obtain ⟨mc, f, t, h⟩ := dy_waysH hY; exact ⟨_, h⟩
/-- how many steps are kept -/
theorem mx_dsize (l : Launch) (G : GG) (ad : Nat → Nat) (M : RM) : MX l yJ22_size (ws_ yJ22_size cJ22_size 1 (some .int)) 1 0 0 G ad [.ref (ad 8)] M (Zd (some (vI (M 8 0))) M) := by
  refine MX.ofH (fun hp hP hY => ⟨_, mh_J22_size l G hp (ad 8) (fun x hp1 => x = M 8 0 ∧ hp1 = hp) ?_, ?_⟩)
  · obtain ⟨h0, n, x, g1, g2, g3, g4, g5⟩ := dy_doneH hY
    refine ⟨_, (((h0 + n) % 15 : Nat) : Int), g4, rfl, _, (h0 : Int), g4, rfl, _, some (ad 41), g4, rfl, _, rfl, 15, x, g5, ?_⟩
    have hw : w32 ((((h0 + n) % 15 : Nat) : Int) - (h0 : Int)) = (((h0 + n) % 15 : Nat) : Int) - (h0 : Int) := w32_of (by omega) (by omega)
    refine ⟨fun h => ⟨?_, rfl⟩, fun h => ⟨?_, rfl⟩⟩
    · rw [hw] at h
      rw [g3]
      omega
    · rw [hw] at h
      rw [g3]
      show (((h0 + n) % 15 : Nat) : Int) - (h0 : Int) + ((15 : Nat) : Int) = (n : Int)
      omega
  · rintro rv hp1 ⟨x, rfl, rfl, rfl⟩
    exact ⟨M, ⟨rfl, rfl⟩, hP, hY⟩
theorem dsize_rec {G : GG} {ad : Nat → Nat} {M : RM} : ∀ hp : HP, DY G ad (vw M) hp → ∃ fs : List Value, hp (ad 8) = some (.inr (20, fs)) := fun hp hY => by
  obtain ⟨h0, n, x, g1, g2, g3, g4, g5⟩ := dy_doneH hY
  exact ⟨_, g4⟩
