/-! 29 XSTART: what the law's start gives behind KG (mine) -/
theorem SX.zq {G : GG} {U : State} (h : SX G U) {C n d : String} (hl : Cond.laysStatic C n d ∈ lw_tbl) (hi : Cond.initialized C ∈ lw_tbl) (hr : Cond.isRef (.static C n d) ∈ flatC (Jvm.Cond.and given_1 narrow_1)) : vx_Zq C n d (fun a => G.2.2.size ≤ a) U G.2.2 := by
  obtain ⟨s0, b, h0, hW, hw, hb, hg⟩ := h
  have h1 := vx_Zqof (args := #[Value.ref b]) (s := s0) (A := fun a => G.2.2.size ≤ a) (hw _ hl) (hw _ hi) (flat_of_before _ hg _ hr) (fun a ha => Nat.not_le.mpr (by rw [h0] at ha; exact ha))
  rw [h0] at h1
  exact vx_Zq.moved hW.alike h1
theorem KG.sx {G : GG} {U : State} (h : KG G U) : SX G U := h.2.2.2.2.2.2
def hAll (F : Option Nat → Prop) : Prop := ∀ r : Option Nat, F r
section XST
variable {p : Program} {l : Launch} {e : Env} {R : Room} {s : State} {m : MethodId} {args : Array Value} {below : List Frame} {meth : Method} {c : Code} {H : Heap} {locs : List Loc} {cells slots : Nat} {Q : State → Prop} {cc : ByteArray} {nL : Nat} {own : String} {ret : Option FieldType} {G : GG} {pc : Nat} {ls : Array Slot} {rest : List Value} {C : String} {index : Nat} {hp : HP}
theorem CX.any (X : CX p s m args meth c cc nL own ret G) {w : Cond} (h : w ∈ lw_tbl) (hg : goodWord w = true ∨ (twOk w = true ∧ w.onTables = true)) : w.before args s = true := by
  rcases hg with hg | hg
  · exact X.ht w (lw_g h hg)
  · exact va_Nw.use hg.2 (X.hN h hg.1)
theorem h_getsR (X : CX p s m args meth c cc nL own ret G) (hW : WH G hp H locs) {n d : String} {F : Option Nat → Prop} (hE : hAll F) (hl : Cond.laysStatic C n d ∈ lw_tbl) (hi : Cond.initialized C ∈ lw_tbl) (hr : Cond.isRef (.static C n d) ∈ flatC (Jvm.Cond.and given_1 narrow_1)) (hq : Cond.fieldLink own index C n d ∈ lw_all) (hdg : decode cc pc = .ok (.getstatic index, 3)) (kk : ∀ r : Option Nat, F r → W p l e R s m args below meth c H locs cells slots Q (F0 m (pc + 3) ls (va_rf r :: rest))) : W p l e R s m args below meth c H locs cells slots Q (F0 m pc ls rest) := by
  rcases (X.hK.sx.zq hl hi hr).1 with ⟨cf, kf, fi, f, a, cell, h1, h2, h3, h4, h5, h6, h7, h8⟩ | ⟨t, cf, kf, fi, f, a, cell, h1, h2, h3, h4, h5, h6, h7, h8⟩
  · exact W.gets X.hx X.hb X.ho (X.ht _ hq) h1 h2 h3 h4 (by rw [hW.1.2.1 a (Nat.not_le.mp h8)]; exact h5) (fun e => by rw [e] at h6; cases h6) h7 rfl hdg (kk none (hE none))
  · exact W.gets X.hx X.hb X.ho (X.ht _ hq) h1 h2 h3 h4 (by rw [hW.1.2.1 a (Nat.not_le.mp h8)]; exact h5) (fun e => by rw [e] at h6; cases h6) h7 rfl hdg (kk (some t) (hE (some t)))
end XST
