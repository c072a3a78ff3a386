/-! 06b MEMORY 2: references (coded by cell, or raw), nest mates, casts, interface and inherited calls -/
set_option maxRecDepth 100000
def dr (lo n : Nat) (v : Int) : Option Nat := if (lo : Int) ≤ v ∧ v < lo + n then some v.toNat else none
theorem dr_some {lo n : Nat} {v : Int} {o : Nat} (h : dr lo n v = some o) : (lo ≤ o ∧ o < lo + n) ∧ v = o := by
  unfold dr at h
  by_cases g : (lo : Int) ≤ v ∧ v < lo + n
  · rw [if_pos g] at h; cases h; omega
  · rw [if_neg g] at h; cases h
def iUshr (x y : Int) : Int := ((Int32.ofInt x).toUInt32 >>> ((Int32.ofInt y).toUInt32 &&& Int32.toUInt32 31)).toInt32.toInt
def lAnd (x y : Int) : Int := (Int64.ofInt x &&& Int64.ofInt y).toInt
def lOr (x y : Int) : Int := (Int64.ofInt x ||| Int64.ofInt y).toInt
def lXor (x y : Int) : Int := (Int64.ofInt x ^^^ Int64.ofInt y).toInt
theorem va_rf_cat (r : Option Nat) : (va_rf r).category = 1 := by cases r <;> rfl
section M2
variable {p : Program} {l : Launch} {e : Env} {R : Room} {s : State} {m : MethodId} {args : Array Value} {below : List Frame} {meth : Method} {c : Code} {H : Heap} {locs : List Loc} {cells slots : Nat} {Q : State → Prop} {cc : ByteArray} {nL : Nat} {own : String} {ret : Option FieldType} {G : GG} {pc : Nat} {ls : Array Slot} {rest : List Value} {α : Type} {out : α} {C : String} {T : u_T} {N ci : Nat} {ty : Nat → FieldType} {index : Nat} {ref : String} {D : rw_D} {ad : Nat → Nat} {hp0 : HP} {M : RM} {fds : List (Nat × Nat)}
theorem CX.hN (X : CX p s m args meth c cc nL own ret G) {w : Cond} (h : w ∈ lw_tbl) (h2 : twOk w = true) : va_Nw w s := X.hK.2.1 w (List.mem_filter.mpr ⟨h, h2⟩)
theorem rfo_cell (ad : Nat → Nat) (o : Nat) : rfo ad (o : Int) = some (ad o) := by unfold rfo; rw [if_neg (by omega)]; rfl
theorem rfo_null (ad : Nat → Nat) {v : Int} (h : v < 0) : rfo ad v = none := by unfold rfo; rw [if_pos h]
theorem rfo_pos (ad : Nat → Nat) {v : Int} (h : ¬ v < 0) : rfo ad v = some (ad v.toNat) := by unfold rfo; rw [if_neg h]
theorem e_null (X : CX p s m args meth c cc nL own ret G) (hdg : decode cc pc = .ok (.aconst_null, 1)) (k : W p l e R s m args below meth c H locs cells slots Q (F0 m (pc + 1) ls (va_rf (rfo ad (-1)) :: rest))) : W p l e R s m args below meth c H locs cells slots Q (F0 m pc ls rest) := lv_null X.hx X.hb hdg k
theorem e_nullw (X : CX p s m args meth c cc nL own ret G) (hdg : decode cc pc = .ok (.aconst_null, 1)) (k : W p l e R s m args below meth c H locs cells slots Q (F0 m (pc + 1) ls (va_rf none :: rest))) : W p l e R s m args below meth c H locs cells slots Q (F0 m pc ls rest) := lv_null X.hx X.hb hdg k
theorem e_iushr (X : CX p s m args meth c cc nL own ret G) {x y : Int} (hdg : decode cc pc = .ok (.iushr, 1)) (k : W p l e R s m args below meth c H locs cells slots Q (F0 m (pc + 1) ls (vI (iUshr x y) :: rest))) : W p l e R s m args below meth c H locs cells slots Q (F0 m pc ls (vI y :: vI x :: rest)) := lv_iushr X.hx X.hb hdg rfl (by have k := k; unfold vI iUshr at k; rw [Int32.ofInt_toInt] at k; exact k)
theorem e_land (X : CX p s m args meth c cc nL own ret G) {x y : Int} (hdg : decode cc pc = .ok (.land, 1)) (k : W p l e R s m args below meth c H locs cells slots Q (F0 m (pc + 1) ls (vL (lAnd x y) :: rest))) : W p l e R s m args below meth c H locs cells slots Q (F0 m pc ls (vL y :: vL x :: rest)) := lv_land X.hx X.hb hdg (by have k := k; unfold vL lAnd at k; rw [Int64.ofInt_toInt] at k; exact k)
theorem e_lor (X : CX p s m args meth c cc nL own ret G) {x y : Int} (hdg : decode cc pc = .ok (.lor, 1)) (k : W p l e R s m args below meth c H locs cells slots Q (F0 m (pc + 1) ls (vL (lOr x y) :: rest))) : W p l e R s m args below meth c H locs cells slots Q (F0 m pc ls (vL y :: vL x :: rest)) := lv_lor X.hx X.hb hdg (by have k := k; unfold vL lOr at k; rw [Int64.ofInt_toInt] at k; exact k)
theorem e_lxor (X : CX p s m args meth c cc nL own ret G) {x y : Int} (hdg : decode cc pc = .ok (.lxor, 1)) (k : W p l e R s m args below meth c H locs cells slots Q (F0 m (pc + 1) ls (vL (lXor x y) :: rest))) : W p l e R s m args below meth c H locs cells slots Q (F0 m pc ls (vL y :: vL x :: rest)) := lv_lxor X.hx X.hb hdg (by have k := k; unfold vL lXor at k; rw [Int64.ofInt_toInt] at k; exact k)
theorem hw_gets (X : CX p s m args meth c cc nL own ret G) {hp : HP} (hW : WR G hp H) {n d : String} {v : Int32} (hS : (C, n, d, v) ∈ SFL) (hq : Cond.fieldLink own index ref n d ∈ lw_all) (hs : C = ref) (hdg : decode cc pc = .ok (.getstatic index, 3)) (kk : W p l e R s m args below meth c H locs cells slots Q (F0 m (pc + 3) ls (.int v :: rest))) : W p l e R s m args below meth c H locs cells slots Q (F0 m pc ls rest) := by
  obtain ⟨cf, kf, fi, f, a, cell, h1, h2, h3, h4, h5, h6, h7, h8⟩ := X.hK.2.2.2.2.1 _ hS
  subst hs
  exact W.gets X.hx X.hb X.ho (X.ht _ hq) h1 h2 h3 h4 (by rw [hW.2.1 a (Nat.not_le.mp h8)]; exact h5) (fun e => by rw [e] at h6; cases h6) h7 rfl hdg kk
theorem r_gets (X : CX p s m args meth c cc nL own ret G) (hM : RW G D ad hp0 M H locs) {n d : String} {v : Int32} (x : Int) (hv : v = Int32.ofInt x) (hS : (C, n, d, v) ∈ SFL) (hq : Cond.fieldLink own index ref n d ∈ lw_all) (hs : C = ref) (hdg : decode cc pc = .ok (.getstatic index, 3)) (kk : W p l e R s m args below meth c H locs cells slots Q (F0 m (pc + 3) ls (vI x :: rest))) : W p l e R s m args below meth c H locs cells slots Q (F0 m pc ls rest) := by
  obtain ⟨⟨hp, hW, -⟩, -⟩ := hM
  subst hv
  exact hw_gets X hW hS hq hs hdg kk
theorem e_aloadR_n (X : CX p s m args meth c cc nL own ret G) {k : Fin 4} {lv : List (Nat × Value)} (hl : lv_has ls nL lv) (j : Nat) {i : Nat} {r : Option Nat} (hj : lv[j]? = some (i, va_rf r)) (hdg : decode cc pc = .ok (.aload_n k, 1)) (hi : (k : Nat) = i) (kk : W p l e R s m args below meth c H locs cells slots Q (F0 m (pc + 1) ls (va_rf r :: rest))) : W p l e R s m args below meth c H locs cells slots Q (F0 m pc ls rest) := by
  cases r with
  | none => exact lv_aload_nN X.hx X.hb hdg hi (lv_at hl j hj) kk
  | some x => exact lv_aload_n X.hx X.hb hdg hi (lv_at hl j hj) kk
theorem e_aloadR (X : CX p s m args meth c cc nL own ret G) {lv : List (Nat × Value)} (hl : lv_has ls nL lv) (j : Nat) {i : Nat} {r : Option Nat} (hj : lv[j]? = some (i, va_rf r)) (hdg : decode cc pc = .ok (.aload i, 2)) (kk : W p l e R s m args below meth c H locs cells slots Q (F0 m (pc + 2) ls (va_rf r :: rest))) : W p l e R s m args below meth c H locs cells slots Q (F0 m pc ls rest) := by
  cases r with
  | none => exact lv_aloadN X.hx X.hb hdg (lv_at hl j hj) kk
  | some x => exact lv_aload X.hx X.hb hdg (lv_at hl j hj) kk
theorem e_astoreR_n (X : CX p s m args meth c cc nL own ret G) {k : Fin 4} {lv : List (Nat × Value)} (hl : lv_has ls nL lv) {i : Nat} {r : Option Nat} (lv' : List (Nat × Value)) (hdg : decode cc pc = .ok (.astore_n k, 1)) (hi : (k : Nat) = i) (hn : i < nL) (hv : (i, va_rf r) :: lv.filter (fun q => !(q.1 == i) && !(q.1 + 1 == i && q.2.category == 2)) = lv') (kk : ∀ ls' : Array Slot, lv_has ls' nL lv' → W p l e R s m args below meth c H locs cells slots Q (F0 m (pc + 1) ls' rest)) : W p l e R s m args below meth c H locs cells slots Q (F0 m pc ls (va_rf r :: rest)) := by
  cases r with
  | none => exact lv_astore_nN X.hx X.hb hdg hi hl hn hv kk
  | some x => exact lv_astore_n X.hx X.hb hdg hi hl hn hv kk
theorem e_astoreR (X : CX p s m args meth c cc nL own ret G) {lv : List (Nat × Value)} (hl : lv_has ls nL lv) {i : Nat} {r : Option Nat} (lv' : List (Nat × Value)) (hdg : decode cc pc = .ok (.astore i, 2)) (hn : i < nL) (hv : (i, va_rf r) :: lv.filter (fun q => !(q.1 == i) && !(q.1 + 1 == i && q.2.category == 2)) = lv') (kk : ∀ ls' : Array Slot, lv_has ls' nL lv' → W p l e R s m args below meth c H locs cells slots Q (F0 m (pc + 2) ls' rest)) : W p l e R s m args below meth c H locs cells slots Q (F0 m pc ls (va_rf r :: rest)) := by
  cases r with
  | none => exact lv_astoreN X.hx X.hb hdg hl hn hv kk
  | some x => exact lv_astore X.hx X.hb hdg hl hn hv kk
theorem e_deref {lo n : Nat} {v : Int} {f : Nat → Option α} (hE : ob (dr lo n v) f = some out) (kk : ∀ o : Nat, (lo ≤ o ∧ o < lo + n) → f o = some out → W p l e R s m args below meth c H locs cells slots Q (F0 m pc ls (.ref (ad o) :: rest))) : W p l e R s m args below meth c H locs cells slots Q (F0 m pc ls (va_rf (rfo ad v) :: rest)) := by
  obtain ⟨o, h1, hE2⟩ := ob_some hE
  obtain ⟨h2, rfl⟩ := dr_some h1
  rw [rfo_cell]
  exact kk o h2 hE2
theorem e_ifnullR (X : CX p s m args meth c cc nL own ret G) {v : Int} {A B : Option α} (hE : (if v < 0 then A else B) = some out) {off : Int} {tgt : Nat} (hdg : decode cc pc = .ok (.ifnull off, 3)) (ht : (pc : Int) + off = (tgt : Int)) (kt : A = some out → W p l e R s m args below meth c H locs cells slots Q (F0 m tgt ls rest)) (kf : B = some out → W p l e R s m args below meth c H locs cells slots Q (F0 m (pc + 3) ls rest)) : W p l e R s m args below meth c H locs cells slots Q (F0 m pc ls (va_rf (rfo ad v) :: rest)) := by
  refine e_case hE (fun h hA => ?_) (fun h hB => ?_)
  · rw [rfo_null ad h]
    exact lv_ifnullN X.hx X.hb hdg ht (kt hA)
  · rw [rfo_pos ad h]
    exact lv_ifnull X.hx X.hb hdg (kf hB)
theorem e_ifnonnullR (X : CX p s m args meth c cc nL own ret G) {v : Int} {A B : Option α} (hE : (if ¬ v < 0 then A else B) = some out) {off : Int} {tgt : Nat} (hdg : decode cc pc = .ok (.ifnonnull off, 3)) (ht : (pc : Int) + off = (tgt : Int)) (kt : A = some out → W p l e R s m args below meth c H locs cells slots Q (F0 m tgt ls rest)) (kf : B = some out → W p l e R s m args below meth c H locs cells slots Q (F0 m (pc + 3) ls rest)) : W p l e R s m args below meth c H locs cells slots Q (F0 m pc ls (va_rf (rfo ad v) :: rest)) := by
  refine e_case hE (fun h hA => ?_) (fun h hB => ?_)
  · rw [rfo_pos ad h]
    exact lv_ifnonnull X.hx X.hb hdg ht (kt hA)
  · rw [rfo_null ad (Int.not_le.mp (fun q => h (Int.not_lt.mpr q)))]
    exact lv_ifnonnullN X.hx X.hb hdg (kf hB)
theorem e_ifnullC (X : CX p s m args meth c cc nL own ret G) {x : Nat} {off : Int} (hdg : decode cc pc = .ok (.ifnull off, 3)) (k : W p l e R s m args below meth c H locs cells slots Q (F0 m (pc + 3) ls rest)) : W p l e R s m args below meth c H locs cells slots Q (F0 m pc ls (.ref x :: rest)) := lv_ifnull X.hx X.hb hdg k
theorem e_ifnonnullC (X : CX p s m args meth c cc nL own ret G) {x : Nat} {off : Int} {tgt : Nat} (hdg : decode cc pc = .ok (.ifnonnull off, 3)) (ht : (pc : Int) + off = (tgt : Int)) (k : W p l e R s m args below meth c H locs cells slots Q (F0 m tgt ls rest)) : W p l e R s m args below meth c H locs cells slots Q (F0 m pc ls (.ref x :: rest)) := lv_ifnonnull X.hx X.hb hdg ht k
theorem r_acmp_eq (X : CX p s m args meth c cc nL own ret G) (hM : RW G D ad hp0 M H locs) {o1 o2 : Nat} {q1 q2 : rw_C} (hd1 : D o1 = some q1) (hd2 : D o2 = some q2) {A B : Option α} (hE : (if o1 = o2 then A else B) = some out) {off : Int} {tgt : Nat} (hdg : decode cc pc = .ok (.if_acmp .eq off, 3)) (ht : (pc : Int) + off = (tgt : Int)) (kt : A = some out → W p l e R s m args below meth c H locs cells slots Q (F0 m tgt ls rest)) (kf : B = some out → W p l e R s m args below meth c H locs cells slots Q (F0 m (pc + 3) ls rest)) : W p l e R s m args below meth c H locs cells slots Q (F0 m pc ls (.ref (ad o2) :: .ref (ad o1) :: rest)) := by
  have hj : (some (ad o1) : Option Nat) = some (ad o2) ↔ o1 = o2 := by
    refine ⟨fun h => ?_, fun h => by rw [h]⟩
    obtain ⟨⟨hp, -, hP, -⟩, -⟩ := hM
    exact hP.2 o1 o2 (by rw [hd1]; exact fun z => by cases z) (by rw [hd2]; exact fun z => by cases z) (Option.some.inj h)
  refine e_case hE (fun h hA => ?_) (fun h hB => ?_)
  · exact lv_acmp_eq (rx := some (ad o1)) (ry := some (ad o2)) X.hx X.hb hdg ht (fun _ => kt hA) (fun q => absurd (hj.mpr h) q)
  · exact lv_acmp_eq (rx := some (ad o1)) (ry := some (ad o2)) X.hx X.hb hdg ht (fun q => absurd (hj.mp q) h) (fun _ => kf hB)
theorem r_acmp_ne (X : CX p s m args meth c cc nL own ret G) (hM : RW G D ad hp0 M H locs) {o1 o2 : Nat} {q1 q2 : rw_C} (hd1 : D o1 = some q1) (hd2 : D o2 = some q2) {A B : Option α} (hE : (if ¬ o1 = o2 then A else B) = some out) {off : Int} {tgt : Nat} (hdg : decode cc pc = .ok (.if_acmp .ne off, 3)) (ht : (pc : Int) + off = (tgt : Int)) (kt : A = some out → W p l e R s m args below meth c H locs cells slots Q (F0 m tgt ls rest)) (kf : B = some out → W p l e R s m args below meth c H locs cells slots Q (F0 m (pc + 3) ls rest)) : W p l e R s m args below meth c H locs cells slots Q (F0 m pc ls (.ref (ad o2) :: .ref (ad o1) :: rest)) := by
  have hj : (some (ad o1) : Option Nat) = some (ad o2) ↔ o1 = o2 := by
    refine ⟨fun h => ?_, fun h => by rw [h]⟩
    obtain ⟨⟨hp, -, hP, -⟩, -⟩ := hM
    exact hP.2 o1 o2 (by rw [hd1]; exact fun z => by cases z) (by rw [hd2]; exact fun z => by cases z) (Option.some.inj h)
  refine e_case hE (fun h hA => ?_) (fun h hB => ?_)
  · exact lv_acmp_ne (rx := some (ad o1)) (ry := some (ad o2)) X.hx X.hb hdg ht (fun _ => kt hA) (fun q => absurd (hj.mp q) h)
  · exact lv_acmp_ne (rx := some (ad o1)) (ry := some (ad o2)) X.hx X.hb hdg ht (fun q => absurd (Classical.byContradiction fun g => h (fun z => g (hj.mpr z))) q) (fun _ => kf hB)
theorem r_getNI (X : CX p s m args meth c cc nL own ret G) (hM : RW G D ad hp0 M H locs) (ck : CK ci C T N ty) (o k : Nat) (hd : D o = some (.inr (ci, fds))) (hf : fds[k]? = some (0, 0)) (hk : k < N) {host : String} (hq : Cond.fieldLinkNest own index ref (T k).2.1 (T k).2.2.1 host ∈ lw_tbl) (hs : (T k).1 = ref) (hdg : decode cc pc = .ok (.getfield index, 3)) (kk : W p l e R s m args below meth c H locs cells slots Q (F0 m (pc + 3) ls (vI (M o k) :: rest))) : W p l e R s m args below meth c H locs cells slots Q (F0 m pc ls (.ref (ad o) :: rest)) := by
  obtain ⟨hp, hW, he⟩ := hM.cell hd
  exact va_getN X.hx X.hb X.ht ck.2.1 X.ho X.hK.1 (hW.one he) 0 rfl ck.1 k hk (va_Nw.use rfl (X.hN hq rfl)) (by rw [hs]; exact fun _ h => h) (v := vI (M o k)) (by rw [List.getElem?_mapIdx, hf]; rfl) hdg kk
theorem r_getNJ (X : CX p s m args meth c cc nL own ret G) (hM : RW G D ad hp0 M H locs) (ck : CK ci C T N ty) (o k : Nat) (hd : D o = some (.inr (ci, fds))) (hf : fds[k]? = some (1, 0)) (hk : k < N) {host : String} (hq : Cond.fieldLinkNest own index ref (T k).2.1 (T k).2.2.1 host ∈ lw_tbl) (hs : (T k).1 = ref) (hdg : decode cc pc = .ok (.getfield index, 3)) (kk : W p l e R s m args below meth c H locs cells slots Q (F0 m (pc + 3) ls (vL (M o k) :: rest))) : W p l e R s m args below meth c H locs cells slots Q (F0 m pc ls (.ref (ad o) :: rest)) := by
  obtain ⟨hp, hW, he⟩ := hM.cell hd
  exact va_getN X.hx X.hb X.ht ck.2.1 X.ho X.hK.1 (hW.one he) 0 rfl ck.1 k hk (va_Nw.use rfl (X.hN hq rfl)) (by rw [hs]; exact fun _ h => h) (v := vL (M o k)) (by rw [List.getElem?_mapIdx, hf]; rfl) hdg kk
theorem r_getNR (X : CX p s m args meth c cc nL own ret G) (hM : RW G D ad hp0 M H locs) (ck : CK ci C T N ty) (o k : Nat) (hd : D o = some (.inr (ci, fds))) {j : Nat} (hf : fds[k]? = some (2, j)) (hk : k < N) {host : String} (hq : Cond.fieldLinkNest own index ref (T k).2.1 (T k).2.2.1 host ∈ lw_tbl) (hs : (T k).1 = ref) (hdg : decode cc pc = .ok (.getfield index, 3)) (kk : W p l e R s m args below meth c H locs cells slots Q (F0 m (pc + 3) ls (.ref (ad j) :: rest))) : W p l e R s m args below meth c H locs cells slots Q (F0 m pc ls (.ref (ad o) :: rest)) := by
  obtain ⟨hp, hW, he⟩ := hM.cell hd
  exact va_getN X.hx X.hb X.ht ck.2.1 X.ho X.hK.1 (hW.one he) 0 rfl ck.1 k hk (va_Nw.use rfl (X.hN hq rfl)) (by rw [hs]; exact fun _ h => h) (v := .ref (ad j)) (by rw [List.getElem?_mapIdx, hf]; rfl) hdg kk
theorem r_getC (X : CX p s m args meth c cc nL own ret G) (hM : RW G D ad hp0 M H locs) (ck : CK ci C T N ty) (o k : Nat) (hd : D o = some (.inr (ci, fds))) (hf : fds[k]? = some (3, 0)) (hk : k < N) (hq : Cond.fieldLink own index ref (T k).2.1 (T k).2.2.1 ∈ lw_all) (hs : (T k).1 = ref) (hdg : decode cc pc = .ok (.getfield index, 3)) (kk : W p l e R s m args below meth c H locs cells slots Q (F0 m (pc + 3) ls (va_rf (rfo ad (M o k)) :: rest))) : W p l e R s m args below meth c H locs cells slots Q (F0 m pc ls (.ref (ad o) :: rest)) := by
  obtain ⟨hp, hW, he⟩ := hM.cell hd
  exact hw_get X hW ck he k hk hq hs (v := va_rf (rfo ad (M o k))) (by rw [List.getElem?_mapIdx, hf]; rfl) hdg kk
theorem hw_putN (X : CX p s m args meth c cc nL own ret G) {hp : HP} {a : Nat} {fs : List Value} (hW : WR G hp H) (hL : LO G locs) (ck : CK ci C T N ty) (he : hp a = some (.inr (ci, fs))) (k : Nat) (hk : k < N) {host : String} (hq : Cond.fieldLinkNest own index ref (T k).2.1 (T k).2.2.1 host ∈ lw_tbl) (hs : (T k).1 = ref) (hfin : (T k).2.2.2 = false) {tv : FieldType} {v : Value} (hd : parseFieldDescriptor (T k).2.2.1 = some tv) (hn : narrow tv v = v) (hfit : fits tv v = true) (hl : k < fs.length) (hdg : decode cc pc = .ok (.putfield index, 3)) (kk : ∀ (H1 : Heap) (locs1 : List Loc), WR G (hup hp a (.inr (ci, fs.set k v))) H1 → LO G locs1 → W p l e R s m args below meth c H1 locs1 cells slots Q (F0 m (pc + 3) ls rest)) : W p l e R s m args below meth c H locs cells slots Q (F0 m pc ls (v :: .ref a :: rest)) := by
  obtain ⟨q0, h0⟩ := lst_at he (hW.lt he)
  refine va_putN X.hx X.hb X.ht ck.2.1 ty ck.2.2.1 ck.2.2.2 X.ho X.hK.1 hW.P hW.D (hW.S hL) q0 h0 ck.1 k hk (va_Nw.use rfl (X.hN hq rfl)) (by rw [hs]; exact fun _ h => h) hfin hd hn hfit hl hdg (fun H1 locs1 hP _ hS => ?_)
  obtain ⟨g1, g2⟩ := hW.set h0 hP hS
  exact kk H1 locs1 g1 g2
theorem r_putNI (X : CX p s m args meth c cc nL own ret G) (hM : RW G D ad hp0 M H locs) (ck : CK ci C T N ty) (o k : Nat) (hd : D o = some (.inr (ci, fds))) (hf : fds[k]? = some (0, 0)) (hk : k < N) {host : String} (hq : Cond.fieldLinkNest own index ref (T k).2.1 (T k).2.2.1 host ∈ lw_tbl) (hs : (T k).1 = ref) (hfin : (T k).2.2.2 = false) {x : Int} {f : RM → Option α} (hE : jn (up2 M o k x) f = some out) (ht : ty k = .int) (hdg : decode cc pc = .ok (.putfield index, 3)) (kk : ∀ M1 : RM, f M1 = some out → ∀ (H1 : Heap) (locs1 : List Loc), RW G D ad hp0 M1 H1 locs1 → W p l e R s m args below meth c H1 locs1 cells slots Q (F0 m (pc + 3) ls rest)) : W p l e R s m args below meth c H locs cells slots Q (F0 m pc ls (vI x :: .ref (ad o) :: rest)) := by
  obtain ⟨⟨hp, hW, hP, hF⟩, hL⟩ := hM
  refine hw_putN X hW hL ck (hP.1 o _ hd) k hk hq hs hfin ((ck.2.2.1 k hk).trans (congrArg some ht)) rfl rfl (by rw [List.length_mapIdx]; exact (List.getElem?_eq_some_iff.mp hf).1) hdg (fun H1 locs1 g1 g2 => ?_)
  exact kk _ hE H1 locs1 (RW_up hd hP hF (by show _ = Sum.inr (ci, _); rw [← mapIdx_set hf]; rfl) g1 g2)
theorem r_putNZ (X : CX p s m args meth c cc nL own ret G) (hM : RW G D ad hp0 M H locs) (ck : CK ci C T N ty) (o k : Nat) (hd : D o = some (.inr (ci, fds))) (hf : fds[k]? = some (0, 0)) (hk : k < N) {host : String} (hq : Cond.fieldLinkNest own index ref (T k).2.1 (T k).2.2.1 host ∈ lw_tbl) (hs : (T k).1 = ref) (hfin : (T k).2.2.2 = false) {x : Int} {f : RM → Option α} (hE : jn (up2 M o k x) f = some out) (hz : x = 0 ∨ x = 1) (ht : ty k = .boolean) (hdg : decode cc pc = .ok (.putfield index, 3)) (kk : ∀ M1 : RM, f M1 = some out → ∀ (H1 : Heap) (locs1 : List Loc), RW G D ad hp0 M1 H1 locs1 → W p l e R s m args below meth c H1 locs1 cells slots Q (F0 m (pc + 3) ls rest)) : W p l e R s m args below meth c H locs cells slots Q (F0 m pc ls (vI x :: .ref (ad o) :: rest)) := by
  obtain ⟨⟨hp, hW, hP, hF⟩, hL⟩ := hM
  refine hw_putN X hW hL ck (hP.1 o _ hd) k hk hq hs hfin ((ck.2.2.1 k hk).trans (congrArg some ht)) (by rcases hz with h | h <;> subst h <;> decide) (by rcases hz with h | h <;> subst h <;> decide) (by rw [List.length_mapIdx]; exact (List.getElem?_eq_some_iff.mp hf).1) hdg (fun H1 locs1 g1 g2 => ?_)
  exact kk _ hE H1 locs1 (RW_up hd hP hF (by show _ = Sum.inr (ci, _); rw [← mapIdx_set hf]; rfl) g1 g2)
theorem r_putNJ (X : CX p s m args meth c cc nL own ret G) (hM : RW G D ad hp0 M H locs) (ck : CK ci C T N ty) (o k : Nat) (hd : D o = some (.inr (ci, fds))) (hf : fds[k]? = some (1, 0)) (hk : k < N) {host : String} (hq : Cond.fieldLinkNest own index ref (T k).2.1 (T k).2.2.1 host ∈ lw_tbl) (hs : (T k).1 = ref) (hfin : (T k).2.2.2 = false) {x : Int} {f : RM → Option α} (hE : jn (up2 M o k x) f = some out) (ht : ty k = .long) (hdg : decode cc pc = .ok (.putfield index, 3)) (kk : ∀ M1 : RM, f M1 = some out → ∀ (H1 : Heap) (locs1 : List Loc), RW G D ad hp0 M1 H1 locs1 → W p l e R s m args below meth c H1 locs1 cells slots Q (F0 m (pc + 3) ls rest)) : W p l e R s m args below meth c H locs cells slots Q (F0 m pc ls (vL x :: .ref (ad o) :: rest)) := by
  obtain ⟨⟨hp, hW, hP, hF⟩, hL⟩ := hM
  refine hw_putN X hW hL ck (hP.1 o _ hd) k hk hq hs hfin ((ck.2.2.1 k hk).trans (congrArg some ht)) rfl rfl (by rw [List.length_mapIdx]; exact (List.getElem?_eq_some_iff.mp hf).1) hdg (fun H1 locs1 g1 g2 => ?_)
  exact kk _ hE H1 locs1 (RW_up hd hP hF (by show _ = Sum.inr (ci, _); rw [← mapIdx_set hf]; rfl) g1 g2)
theorem r_aald (X : CX p s m args meth c cc nL own ret G) (hM : RW G D ad hp0 M H locs) (o : Nat) {t n : Nat} {E : String} (hd : D o = some (.inl (t, n))) (ht : ∀ cA : Nat → ClassId, (TYS cA)[t % 10]? = some (cA (t % 10), .object E)) (hr : ∀ f : Nat → Int, rwa ad t f = .inr (.inr (.inr (.inr (fun j => rfo ad (f j)))))) (hn : n ≤ 100000000) {i : Int} {f : Int → Option α} (hE : ob (gA n M o i) f = some out) (hdg : decode cc pc = .ok (.aaload, 1)) (kk : ∀ v : Int, f v = some out → W p l e R s m args below meth c H locs cells slots Q (F0 m (pc + 1) ls (va_rf (rfo ad v) :: rest))) : W p l e R s m args below meth c H locs cells slots Q (F0 m pc ls (vI i :: .ref (ad o) :: rest)) := by
  obtain ⟨v, h1, hE⟩ := ob_some hE
  obtain ⟨hi, rfl⟩ := gA_some h1
  obtain ⟨hp, hW, he⟩ := hM.cell hd
  obtain ⟨i1, i2⟩ := i32_in hi hn
  have he' : hp (ad o) = some (.inl (G.2.1 (t % 10), (n, .inr (.inr (.inr (.inr (fun j => rfo ad (M o j)))))))) := by rw [he]; show some (Sum.inl (G.2.1 (t % 10), (n, rwa ad t (M o)))) = _; rw [hr]
  refine va_aldq X.hx X.hb X.hK.1 (hW.one he') 0 (t % 10) rfl (ht _) i1 hdg ?_
  rw [i2]
  exact kk _ hE
theorem r_aastC (X : CX p s m args meth c cc nL own ret G) (hM : RW G D ad hp0 M H locs) (o : Nat) {t n : Nat} {E : String} (hd : D o = some (.inl (t, n))) (ht : ∀ cA : Nat → ClassId, (TYS cA)[t % 10]? = some (cA (t % 10), .object E)) (hr : ∀ f : Nat → Int, rwa ad t f = .inr (.inr (.inr (.inr (fun j => rfo ad (f j)))))) (hn : n ≤ 100000000) {o2 ci2 N2 : Nat} {C2 : String} {T2 : u_T} {ty2 : Nat → FieldType} {fds2 : List (Nat × Nat)} (hd2 : D o2 = some (.inr (ci2, fds2))) (ck2 : CK ci2 C2 T2 N2 ty2) (hca : Cond.castable C2 E ∈ lw_tbl) {i : Int} {f : RM → Option α} (hE : ob (sA n M o i (o2 : Int)) f = some out) (hdg : decode cc pc = .ok (.aastore, 1)) (kk : ∀ M1 : RM, f M1 = some out → ∀ (H1 : Heap) (locs1 : List Loc), RW G D ad hp0 M1 H1 locs1 → W p l e R s m args below meth c H1 locs1 cells slots Q (F0 m (pc + 1) ls rest)) : W p l e R s m args below meth c H locs cells slots Q (F0 m pc ls (.ref (ad o2) :: vI i :: .ref (ad o) :: rest)) := by
  obtain ⟨M', h1, hE⟩ := ob_some hE
  obtain ⟨hi, rfl⟩ := sA_some h1
  obtain ⟨⟨hp, hW, hP, hF⟩, hL⟩ := hM
  obtain ⟨i1, i2⟩ := i32_in hi hn
  have he' : hp (ad o) = some (.inl (G.2.1 (t % 10), (n, .inr (.inr (.inr (.inr (fun j => rfo ad (M o j)))))))) := by rw [hP.1 o _ hd]; show some (Sum.inl (G.2.1 (t % 10), (n, rwa ad t (M o)))) = _; rw [hr]
  obtain ⟨q0, h0⟩ := lst_at he' (hW.lt he')
  have he2 := hP.1 o2 _ hd2
  obtain ⟨qk, hk0⟩ := lst_at he2 (hW.lt he2)
  refine va_astqO X.hx X.hb X.hK.1 hW.P hW.D (hW.S hL) q0 (t % 10) qk ci2 h0 (ht _) (X.hN hca rfl) hk0 ck2.1 i1 hdg (fun H1 locs1 hP1 _ hS => ?_)
  obtain ⟨g1, g2⟩ := hW.set h0 hP1 hS
  refine kk _ hE H1 locs1 (RW_up hd hP hF ?_ g1 g2)
  show (Sum.inl (G.2.1 (t % 10), n, _) : va_E) = Sum.inl (G.2.1 (t % 10), n, rwa ad t (up2 M o i.toNat (o2 : Int) o))
  rw [hr, i2]
  congr 7
  funext j
  by_cases h : j = i.toNat
  · subst h
    simp only [va_up, if_true, up2_s]
    first | rw [rfo_cell] | rfl
  · simp [va_up, h, up2_j h]
theorem r_aastN (X : CX p s m args meth c cc nL own ret G) (hM : RW G D ad hp0 M H locs) (o : Nat) {t n : Nat} {E : String} (hd : D o = some (.inl (t, n))) (ht : ∀ cA : Nat → ClassId, (TYS cA)[t % 10]? = some (cA (t % 10), .object E)) (hr : ∀ f : Nat → Int, rwa ad t f = .inr (.inr (.inr (.inr (fun j => rfo ad (f j)))))) (hn : n ≤ 100000000) {i : Int} {f : RM → Option α} (hE : ob (sA n M o i (-1)) f = some out) (hdg : decode cc pc = .ok (.aastore, 1)) (kk : ∀ M1 : RM, f M1 = some out → ∀ (H1 : Heap) (locs1 : List Loc), RW G D ad hp0 M1 H1 locs1 → W p l e R s m args below meth c H1 locs1 cells slots Q (F0 m (pc + 1) ls rest)) : W p l e R s m args below meth c H locs cells slots Q (F0 m pc ls (va_rf (rfo ad (-1)) :: vI i :: .ref (ad o) :: rest)) := by
  obtain ⟨M', h1, hE⟩ := ob_some hE
  obtain ⟨hi, rfl⟩ := sA_some h1
  obtain ⟨⟨hp, hW, hP, hF⟩, hL⟩ := hM
  obtain ⟨i1, i2⟩ := i32_in hi hn
  have he' : hp (ad o) = some (.inl (G.2.1 (t % 10), (n, .inr (.inr (.inr (.inr (fun j => rfo ad (M o j)))))))) := by rw [hP.1 o _ hd]; show some (Sum.inl (G.2.1 (t % 10), (n, rwa ad t (M o)))) = _; rw [hr]
  obtain ⟨q0, h0⟩ := lst_at he' (hW.lt he')
  refine va_astqN X.hx X.hb X.hK.1 hW.P hW.D (hW.S hL) q0 (t % 10) h0 (ht _) i1 hdg (fun H1 locs1 hP1 _ hS => ?_)
  obtain ⟨g1, g2⟩ := hW.set h0 hP1 hS
  refine kk _ hE H1 locs1 (RW_up hd hP hF ?_ g1 g2)
  show (Sum.inl (G.2.1 (t % 10), n, _) : va_E) = Sum.inl (G.2.1 (t % 10), n, rwa ad t (up2 M o i.toNat (-1) o))
  rw [hr, i2]
  congr 7
  funext j
  by_cases h : j = i.toNat
  · subst h
    simp only [va_up, if_true, up2_s]
    first | rw [rfo_cell] | rfl
  · simp [va_up, h, up2_j h]
theorem r_castC (X : CX p s m args meth c cc nL own ret G) (hM : RW G D ad hp0 M H locs) (ck : CK ci C T N ty) {o : Nat} (hd : D o = some (.inr (ci, fds))) {nm : String} (hq : Cond.classLink own index nm ∈ lw_all) (hca : Cond.castable C nm ∈ lw_tbl) (hdg : decode cc pc = .ok (.checkcast index, 3)) (kk : W p l e R s m args below meth c H locs cells slots Q (F0 m (pc + 3) ls (.ref (ad o) :: rest))) : W p l e R s m args below meth c H locs cells slots Q (F0 m pc ls (.ref (ad o) :: rest)) := by
  obtain ⟨hp, hW, he⟩ := hM.cell hd
  exact va_castY X.hx X.hb X.ho (X.ht _ hq) (X.hN hca rfl) (va_recv X.hK.1 (hW.one he) (ci := ci) (q0 := 0) ck.1 rfl) hdg kk
theorem r_castS (X : CX p s m args meth c cc nL own ret G) (hM : RW G D ad hp0 M H locs) (ck : CK ci C T N ty) {o : Nat} (hd : D o = some (.inr (ci, fds))) (hq : Cond.classLink own index C ∈ lw_all) (hdg : decode cc pc = .ok (.checkcast index, 3)) (kk : W p l e R s m args below meth c H locs cells slots Q (F0 m (pc + 3) ls (.ref (ad o) :: rest))) : W p l e R s m args below meth c H locs cells slots Q (F0 m pc ls (.ref (ad o) :: rest)) := by
  obtain ⟨hp, hW, he⟩ := hM.cell hd
  exact va_castS X.hx X.hb X.ho (X.ht _ hq) (X.hK.1.1 ci _ ck.1).2 (va_recv X.hK.1 (hW.one he) (ci := ci) (q0 := 0) ck.1 rfl) hdg kk
theorem e_min (X : CX p s m args meth c cc nL own ret G) (hl : ls.size = nL) (hq1 : Cond.methodLink own index Lib.Math.min.name ∈ lw_all) (hq2 : Cond.static Lib.Math.min.name ∈ lw_all) (hq3 : Cond.initialized "java/lang/Math" ∈ lw_all) (hq4 : Cond.code Lib.Math.min.name Lib.Math.min.code 2 (some .int) ∈ lw_all) {dd mc ms : Nat} (hR : R = rmA (dd + 1) mc ms) (hr : (rest.map fun v => v.category).sum ≤ 8) (hc : cells ≤ mc) (hs : slots ≤ ms) {x y : Int} (hdg : decode cc pc = .ok (.invokestatic index, 3)) (kk : W p l e R s m args below meth c H locs cells slots Q (F0 m (pc + 3) ls (vI (if w32 y < w32 x then y else x) :: rest))) : W p l e R s m args below meth c H locs cells slots Q (F0 m pc ls (vI y :: vI x :: rest)) := by
  subst hR
  refine va_mmin X.hx X.hb (X.1.2.2.1.trans hl.symm) X.ho (X.ht _ hq1) (X.ht _ hq2) (X.ht _ hq3) (X.ht _ hq4) (by show 1 ≤ dd + 1; omega) (by show _ ≤ 48 * (dd + 1); omega) hc hs hdg ?_
  have e : (Value.int (if Int32.ofInt y < Int32.ofInt x then Int32.ofInt y else Int32.ofInt x)) = vI (if w32 y < w32 x then y else x) := by
    unfold vI
    by_cases h : w32 y < w32 x
    · rw [if_pos h, if_pos (i32_lt.mpr h)]
    · rw [if_neg h, if_neg (fun q => h (i32_lt.mp q))]
  rw [e]
  exact kk
theorem r_run5 {rv : Option Value} {M' : RM} {st0 : List Value} (hr : va_Run5 p l e R s m args below meth c H locs cells slots 0 0 (F0 m pc ls st0) rest (fun _ oc t => oc = .returned rv ∧ RWh G D ad hp0 M' t.heap) (fun q => G.2.2.size ≤ q)) (hL : LO G locs)
    (kk : ∀ (H1 : Heap) (locs1 : List Loc), RW G D ad hp0 M' H1 locs1 → W p l e R s m args below meth c H1 locs1 cells slots Q (F0 m (pc + 5) ls (rv.toList ++ rest))) : W p l e R s m args below meth c H locs cells slots Q (F0 m pc ls st0) := by
  intro T hT X
  obtain ⟨v, st₀, t, T', L, h0, X', hL', e1, e2, ⟨hv, hq⟩, st⟩ := hr T hT X
  cases hv
  obtain ⟨t2, a1, b1⟩ := kk T'.heap (locs ++ L) ⟨by rw [e1]; exact hq, fun q hq => (List.mem_append.mp hq).elim (hL q) (hL' q)⟩ T' rfl X'
  exact ⟨t2, st t2 a1, b1⟩
theorem r_callF1 {dd d1 n maxL mc ms count : Nat} {x y : MethodName} {bytes : ByteArray} {ry : Option FieldType} {As st0 : List Value} {v : Value} {M' : RM} (X : CX p s m args meth c cc nL own ret G) (hM : RW G D ad hp0 M H locs) (o : Nat) (hd : D o = some (.inr (ci, fds))) (ck : CK ci C T N ty) (hMet : MR l y (ws_ y bytes maxL ry) d1 G D ad hp0 (.ref (ad o) :: As) M (some v) M') (cw : va_CI (rmA dd mc ms) s args own C index x y bytes maxL ry (ws_ y bytes maxL ry) (rmD d1) 0 0 n) (hn : As.length = n) (hl : ls.size = nL) (hst : st0 = As.reverse ++ .ref (ad o) :: rest) (hroom : (rest.map fun v => v.category).sum ≤ 8) (hdg : decode cc pc = .ok (.invokeinterface index count, 5)) (hcs : cells ≤ mc ∧ slots ≤ ms) (kk : ∀ (H1 : Heap) (locs1 : List Loc), RW G D ad hp0 M' H1 locs1 → W p l e (rmA dd mc ms) s m args below meth c H1 locs1 cells slots Q (F0 m (pc + 5) ls (v :: rest))) : W p l e (rmA dd mc ms) s m args below meth c H locs cells slots Q (F0 m pc ls st0) := by
  obtain ⟨hp, hW, he⟩ := hM.cell hd
  exact r_run5 (va_runF (X.hK.1.1 ci _ ck.1).2 X.1 hMet cw ⟨pc_blind, va_recv X.hK.1 (hW.one he) (ci := ci) (q0 := 0) ck.1 rfl, fun U hU hWm => ⟨rfl, X.hK.warm hWm, by rw [hU]; exact hM.1⟩⟩ rfl hn hl hst (lv_room hroom) hdg hcs) hM.2 kk
theorem r_callU1 {dd d1 n maxL mc ms : Nat} {owner : String} {x y : MethodName} {bytes : ByteArray} {ry : Option FieldType} {As st0 : List Value} {v : Value} {M' : RM} (X : CX p s m args meth c cc nL own ret G) (hM : RW G D ad hp0 M H locs) (o : Nat) (hd : D o = some (.inr (ci, fds))) (ck : CK ci C T N ty) (hMet : MR l y (ws_ y bytes maxL ry) d1 G D ad hp0 (.ref (ad o) :: As) M (some v) M') (cw : va_CU (rmA dd mc ms) s args own C owner index x y bytes maxL ry (ws_ y bytes maxL ry) (rmD d1) 0 0 n) (hn : As.length = n) (hl : ls.size = nL) (hst : st0 = As.reverse ++ .ref (ad o) :: rest) (hroom : (rest.map fun v => v.category).sum ≤ 8) (hdg : decode cc pc = .ok (.invokevirtual index, 3)) (hcs : cells ≤ mc ∧ slots ≤ ms) (kk : ∀ (H1 : Heap) (locs1 : List Loc), RW G D ad hp0 M' H1 locs1 → W p l e (rmA dd mc ms) s m args below meth c H1 locs1 cells slots Q (F0 m (pc + 3) ls (v :: rest))) : W p l e (rmA dd mc ms) s m args below meth c H locs cells slots Q (F0 m pc ls st0) := by
  obtain ⟨hp, hW, he⟩ := hM.cell hd
  exact r_run (va_runU X.1 hMet cw ⟨pc_blind, va_recv X.hK.1 (hW.one he) (ci := ci) (q0 := 0) ck.1 rfl, fun U hU hWm => ⟨rfl, X.hK.warm hWm, by rw [hU]; exact hM.1⟩⟩ rfl hn hl hst (lv_room hroom) hdg hcs) hM.2 kk
theorem r_callF0 {dd d1 n maxL mc ms count : Nat} {x y : MethodName} {bytes : ByteArray} {ry : Option FieldType} {As st0 : List Value} {M' : RM} (X : CX p s m args meth c cc nL own ret G) (hM : RW G D ad hp0 M H locs) (o : Nat) (hd : D o = some (.inr (ci, fds))) (ck : CK ci C T N ty) (hMet : MR l y (ws_ y bytes maxL ry) d1 G D ad hp0 (.ref (ad o) :: As) M none M') (cw : va_CI (rmA dd mc ms) s args own C index x y bytes maxL ry (ws_ y bytes maxL ry) (rmD d1) 0 0 n) (hn : As.length = n) (hl : ls.size = nL) (hst : st0 = As.reverse ++ .ref (ad o) :: rest) (hroom : (rest.map fun v => v.category).sum ≤ 8) (hdg : decode cc pc = .ok (.invokeinterface index count, 5)) (hcs : cells ≤ mc ∧ slots ≤ ms) (kk : ∀ (H1 : Heap) (locs1 : List Loc), RW G D ad hp0 M' H1 locs1 → W p l e (rmA dd mc ms) s m args below meth c H1 locs1 cells slots Q (F0 m (pc + 5) ls rest)) : W p l e (rmA dd mc ms) s m args below meth c H locs cells slots Q (F0 m pc ls st0) := by
  obtain ⟨hp, hW, he⟩ := hM.cell hd
  exact r_run5 (va_runF (X.hK.1.1 ci _ ck.1).2 X.1 hMet cw ⟨pc_blind, va_recv X.hK.1 (hW.one he) (ci := ci) (q0 := 0) ck.1 rfl, fun U hU hWm => ⟨rfl, X.hK.warm hWm, by rw [hU]; exact hM.1⟩⟩ rfl hn hl hst (lv_room hroom) hdg hcs) hM.2 kk
theorem r_callU0 {dd d1 n maxL mc ms : Nat} {owner : String} {x y : MethodName} {bytes : ByteArray} {ry : Option FieldType} {As st0 : List Value} {M' : RM} (X : CX p s m args meth c cc nL own ret G) (hM : RW G D ad hp0 M H locs) (o : Nat) (hd : D o = some (.inr (ci, fds))) (ck : CK ci C T N ty) (hMet : MR l y (ws_ y bytes maxL ry) d1 G D ad hp0 (.ref (ad o) :: As) M none M') (cw : va_CU (rmA dd mc ms) s args own C owner index x y bytes maxL ry (ws_ y bytes maxL ry) (rmD d1) 0 0 n) (hn : As.length = n) (hl : ls.size = nL) (hst : st0 = As.reverse ++ .ref (ad o) :: rest) (hroom : (rest.map fun v => v.category).sum ≤ 8) (hdg : decode cc pc = .ok (.invokevirtual index, 3)) (hcs : cells ≤ mc ∧ slots ≤ ms) (kk : ∀ (H1 : Heap) (locs1 : List Loc), RW G D ad hp0 M' H1 locs1 → W p l e (rmA dd mc ms) s m args below meth c H1 locs1 cells slots Q (F0 m (pc + 3) ls rest)) : W p l e (rmA dd mc ms) s m args below meth c H locs cells slots Q (F0 m pc ls st0) := by
  obtain ⟨hp, hW, he⟩ := hM.cell hd
  exact r_run (va_runU X.1 hMet cw ⟨pc_blind, va_recv X.hK.1 (hW.one he) (ci := ci) (q0 := 0) ck.1 rfl, fun U hU hWm => ⟨rfl, X.hK.warm hWm, by rw [hU]; exact hM.1⟩⟩ rfl hn hl hst (lv_room hroom) hdg hcs) hM.2 kk
theorem cw_U (X : CX p s m args meth c cc nL own ret G) {C owner : String} {x y : MethodName} {bytes : ByteArray} {maxL dd mc ms d1 : Nat} {ry : Option FieldType} (n : Nat) (q1 : Cond.methodLink own index x ∈ lw_all) (q2 : Cond.sameMethod x.cls owner x.name x.desc ∈ lw_all) (q3 : Cond.selects C x y ∈ lw_all) (q4 : Cond.instanceMethod y ∈ lw_all) (q5 : Cond.initialized y.cls ∈ lw_all) (q6 : Cond.code y bytes maxL ry ∈ lw_all) (hz : Cond.declares ⟨owner, x.name, x.desc⟩ ∈ lw_tbl) (hd : owner ≠ "java/lang/invoke/MethodHandle" ∧ owner ≠ "java/lang/invoke/VarHandle" ∧ (parseMethodDescriptor x.desc).map (fun d => d.parameters.length) = some n) (h : d1 + 1 ≤ dd) (h2 : maxL ≤ 29) : va_CU (rmA dd mc ms) s args own C owner index x y bytes maxL ry (ws_ y bytes maxL ry) (rmD d1) 0 0 n := by
  refine va_cwA n X.ht (lw_app ?_ (lw_meth q6)) rfl rfl rfl (X.hN hz rfl) hd (cxR h h2)
  intro w hw
  simp only [List.mem_cons, List.not_mem_nil, or_false] at hw
  rcases hw with e | e | e | e | e
  · rw [e]; exact q1
  · rw [e]; exact q2
  · rw [e]; exact q3
  · rw [e]; exact q4
  · rw [e]; exact q5
theorem cw_F (X : CX p s m args meth c cc nL own ret G) {C : String} {x y : MethodName} {bytes : ByteArray} {maxL dd mc ms d1 : Nat} {ry : Option FieldType} (n : Nat) (q1 : Cond.methodLink own index x ∈ lw_all) (q3 : Cond.selects C x y ∈ lw_all) (q4 : Cond.instanceMethod y ∈ lw_all) (q5 : Cond.initialized y.cls ∈ lw_all) (q6 : Cond.code y bytes maxL ry ∈ lw_all) (hf : (C, x, y) ∈ FWL) (hd : x.cls ≠ "java/lang/invoke/MethodHandle" ∧ x.cls ≠ "java/lang/invoke/VarHandle" ∧ (parseMethodDescriptor x.desc).map (fun d => d.parameters.length) = some n) (h : d1 + 1 ≤ dd) (h2 : maxL ≤ 29) : va_CI (rmA dd mc ms) s args own C index x y bytes maxL ry (ws_ y bytes maxL ry) (rmD d1) 0 0 n := by
  refine va_cwF n X.ht (lw_app ?_ (lw_meth q6)) rfl rfl rfl (X.hK.2.2.1 _ hf) hd (cxR h h2)
  intro w hw
  simp only [List.mem_cons, List.not_mem_nil, or_false] at hw
  rcases hw with e | e | e | e
  · rw [e]; exact q1
  · rw [e]; exact q3
  · rw [e]; exact q4
  · rw [e]; exact q5
theorem r_rret {tv : FieldType} {v : Value} (X : CX p s m args meth c cc nL own (some tv) G) (hM : RW G D ad hp0 M H locs) (hrt : (∃ n, tv = .object n) ∨ ∃ t, tv = .array t) (hv : v = .null ∨ ∃ a, v = .ref a) (hdg : decode cc pc = .ok (.areturn, 1)) : W p l e R s m args below meth c H locs 0 0 (QR below G D ad hp0 args s (some v) M) (F0 m pc ls [v]) :=
  W.aret X.hx X.hb X.2.1 hrt hv (fun t ht _ => ⟨rfl, by rw [ht]; exact hM.1⟩) hM.2 hdg X.2.2.1
theorem r_rretR {tv : FieldType} {v : Int} (X : CX p s m args meth c cc nL own (some tv) G) (hM : RW G D ad hp0 M H locs) (hrt : (∃ n, tv = .object n) ∨ ∃ t, tv = .array t) (hdg : decode cc pc = .ok (.areturn, 1)) : W p l e R s m args below meth c H locs 0 0 (QR below G D ad hp0 args s (some (va_rf (rfo ad v))) M) (F0 m pc ls [va_rf (rfo ad v)]) := r_rret X hM hrt (va_rf_or _) hdg
theorem r_rretC {tv : FieldType} {o : Nat} (X : CX p s m args meth c cc nL own (some tv) G) (hM : RW G D ad hp0 M H locs) (hrt : (∃ n, tv = .object n) ∨ ∃ t, tv = .array t) (hdg : decode cc pc = .ok (.areturn, 1)) : W p l e R s m args below meth c H locs 0 0 (QR below G D ad hp0 args s (some (va_rf (rfo ad (o : Int)))) M) (F0 m pc ls [.ref (ad o)]) := by
  rw [rfo_cell]
  exact r_rret X hM hrt (Or.inr ⟨_, rfl⟩) hdg
theorem Met.ofWF {y : MethodName} {ws ws' : List Cond} {rm : Room} {Pc : Array Value → State → Prop} {Qc : Array Value → State → Outcome → State → Prop} {mc ms : Nat} {free : Addr → Prop} {cc : ByteArray} {maxL : Nat} {ret : Option FieldType}
    (hy : plainFor y = true) (hw : ws = Cond.code y cc maxL ret :: ws')
    (body : ∀ p e s m args below meth c s₁, BodyLoose p l y (headSpec ws rm) cc maxL ret e s m args below meth c s₁ → c.maxLocals = maxL → Pc args s →
      W p l e (headSpec ws rm).room s m args below meth c s.heap [] 0 0 (MQ below Qc args s mc ms free) (entryFrame m args maxL)) : Met l y ws rm Pc Qc mc ms free := by
  refine MetFree.of_bodySF (code := cc) (maxLocals := maxL) (ret := ret) hy ?_ ?_
  · intro args s m h hn
    obtain ⟨meth, c, h1, h2, h3, h4, h5, h6, -, -⟩ := Cond.code_spec hn (atoms_spec (ws := ws) h _ (by rw [hw]; exact List.mem_cons_self))
    exact ⟨meth, c, h1, h2, h3, h4, h5, h6⟩
  · intro p e s m args below meth c s₁ B hml hP _
    have hh0 : s₁.heap = s.heap := by rw [B.state]; rfl
    obtain ⟨t, a1, o, b1, b2, b3⟩ := body p e s m args below meth c s₁ B hml hP s₁ hh0 (Stand.of_body B)
    exact ⟨t, o, a1, b1, b2, ⟨b3.1, b3.2⟩⟩
theorem MR.ofF {y : MethodName} {d : Nat} {vs : List Value} {lv : List (Nat × Value)} {rv : Option Value} {M' : RM} (hy : plainFor y = true) (hn : (lg_sl vs).length ≤ nL) (hlv : lv_args 0 vs = lv)
    (body : ∀ (p : Program) (e : Env) (s : State) (m : MethodId) (below : List Frame) (meth : Method) (c : Code) (ls : Array Slot), CX p s m vs.toArray meth c cc nL y.cls ret G → RW G D ad hp0 M s.heap [] → lv_has ls nL lv → W p l e (rmD d) s m vs.toArray below meth c s.heap [] 0 0 (QR below G D ad hp0 vs.toArray s rv M') (F0 m 0 ls [])) : MR l y (ws_ y cc nL ret) d G D ad hp0 vs M rv M' := by
  refine Met.ofWF (cc := cc) (maxL := nL) (ret := ret) hy rfl ?_
  intro p e s m args below meth c s₁ B hml hv
  obtain ⟨rfl, hK, hM⟩ := hv
  have hts := atoms_spec (ws := ws_ y cc nL ret) B.pre
  have hl := lv_entry vs (n := nL) hn
  rw [lg_entry_eq]
  generalize (lg_sl vs ++ List.replicate (nL - (lg_sl vs).length) Slot.unset).toArray = ls at hl ⊢
  rw [hlv] at hl
  exact body p e s m below meth c ls ⟨⟨B.exec, B.bytes, hml, findClass_of_methodNamed B.named, fun w h => hts w (List.mem_cons_of_mem _ h)⟩, B.returns, B.notSynchronized, hK⟩ ⟨hM, fun q h => by cases h⟩ hl
end M2
