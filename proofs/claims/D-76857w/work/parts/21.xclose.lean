/-! 21 XCLOSE: close, tight, undo -/
set_option maxRecDepth 100000
def pDel (M : RM) (r : Nat) : RM := fun c j => if c = 2 then (if j = 1 then M 2 1 - 1 else M 2 j) else if c = 500 then (if j < 5 * r then M 500 j else M 500 (j + 5)) else M c j
section XCL
variable {G : GG} {ad : Nat → Nat} {M M1 : RM} {own own1 : Nat → Nat} {hp hp1 : HP}
/-- an iterator at q over the roads -/
def ITw (G : GG) (ad : Nat → Nat) (M : RM) (own : Nat → Nat) (hp : HP) (q j : Nat) (mc : Int) (ns its : List Nat) (lr : Option Nat) : Prop := XO G ad M own hp ∧ RVw G ad M own hp ns its ∧ hp (ad 2) = some (lhE mc ns) ∧ hp q = some (itE mc (ad 2) lr ns[j]? j) ∧ own q = 0 ∧ ∀ c : Nat, dX c ≠ none → q ≠ ad c
theorem ITw.step {q j j1 : Nat} {mc : Int} {ns its : List Nat} {lr lr1 : Option Nat} (h : ITw G ad M own hp q j mc ns its lr) : ITw G ad M own (hup hp q (itE mc (ad 2) lr1 ns[j1]? j1)) q j1 mc ns its lr1 := by
  obtain ⟨x, ⟨r0, r1, r2, r3, r4, r5⟩, h0, hi, oq, nq⟩ := h
  have k : ∀ b : Nat, (own b ≠ 0 ∨ ∃ c : Nat, dX c ≠ none ∧ b = ad c) → hup hp q (itE mc (ad 2) lr1 ns[j1]? j1) b = hp b := fun b hb => hup_n (fun z => by
    subst z
    rcases hb with hb | ⟨c, hc, hb⟩
    · exact hb oq
    · exact nq c hc hb)
  have k1 : ∀ b : Nat, own b = 1 → hup hp q (itE mc (ad 2) lr1 ns[j1]? j1) b = hp b := fun b hb => k b (Or.inl (by rw [hb]; decide))
  refine ⟨x.chg k, ⟨r0, r1.fr (k1 _ r0) (fun n hn => k1 n (r2 n hn)), r2, r3, r4, fun i a hi => ⟨(r5 i a hi).1, (k1 a (r5 i a hi).1).trans (r5 i a hi).2⟩⟩, (k1 _ r0).trans h0, hup_s, oq, nq⟩
theorem XO.iter {F : Option Nat → HP → Prop} (x : XO G ad M own hp) (hn : M 2 1 ≤ 1000) (hF : ∀ (q : Nat) (mc : Int) (ns its : List Nat) (hp1 : HP), ns.length ≤ 1000 → M 2 1 = ns.length → ITw G ad M own hp1 q 0 mc ns its none → (∀ b : Nat, hp b ≠ none → hp1 b = hp b) → F (some q) hp1) : w_J2_iterator G hp (ad 2) F := by
  obtain ⟨ns, its, r0, r1, r2, r3, r4, r5⟩ := x.roads
  obtain ⟨mc, hm⟩ := r1.1
  refine ll_iterator r1 (by omega) hm (fun q hq => ?_)
  have e : ∀ b : Nat, hp b ≠ none → hup hp q (itE mc (ad 2) none ns[0]? 0) b = hp b := fun b hb => hup_n (fun z => hb (by rw [z]; exact hq))
  have e1 : ∀ b : Nat, own b = 1 → hup hp q (itE mc (ad 2) none ns[0]? 0) b = hp b := fun b hb => e b (x.al (Or.inl (by rw [hb]; decide)))
  exact hF q mc ns its _ (by omega) r4 ⟨x.ext e, ⟨r0, r1.fr (e1 _ r0) (fun n hn => e1 n (r2 n hn)), r2, r3, r4, fun i a hi => ⟨(r5 i a hi).1, (e1 a (r5 i a hi).1).trans (r5 i a hi).2⟩⟩, (e1 _ r0).trans hm, hup_s, x.2.2.1 q hq, fun c hc z => x.al (Or.inr ⟨c, hc, z⟩) hq⟩ e
theorem ITw.hasNext {q j : Nat} {mc : Int} {ns its : List Nat} {lr : Option Nat} {F : Int → HP → Prop} (h : ITw G ad M own hp q j mc ns its lr) (hb : ns.length ≤ 1000) (hj : j ≤ ns.length) (hF : F (if j < ns.length then 1 else 0) hp) : w_J24_hasNext G hp q F := ll_hasNext (by omega) hj h.2.2.1 h.2.2.2.1 hF
theorem ITw.next {q j : Nat} {mc : Int} {ns its : List Nat} {lr : Option Nat} {F : Option Nat → HP → Prop} (h : ITw G ad M own hp q j mc ns its lr) (hb : ns.length ≤ 1000) (hj : j < ns.length) (hF : ∀ (a : Nat) (hp1 : HP), own a = 1 → hp1 a = some (roadE (M 500) j) → ITw G ad M own hp1 q (j + 1) mc ns its ns[j]? → hp1 = hup hp q (itE mc (ad 2) ns[j]? ns[j + 1]? (j + 1)) → F (some a) hp1) : w_J24_next G hp q F := by
  have st := h.step (j1 := j + 1) (lr1 := ns[j]?)
  obtain ⟨x, ⟨r0, r1, r2, r3, r4, r5⟩, h0, hi, oq, nq⟩ := h
  refine ll_next r1 (by omega) hj h0 hi ?_
  have hl : j < its.length := by rw [r1.2.1]; exact hj
  have he : its[j]? = some its[j] := List.getElem?_eq_getElem hl
  obtain ⟨-, ⟨-, -, -, -, -, g5⟩, -⟩ := st
  have g6 := g5 j _ he
  rw [he]
  exact hF _ _ g6.1 g6.2 (ITw.step ⟨x, ⟨r0, r1, r2, r3, r4, r5⟩, h0, hi, oq, nq⟩) rfl
theorem ITw.remove {q j : Nat} {mc : Int} {ns its : List Nat} {F : HP → Prop} (h : ITw G ad M own hp q (j + 1) mc ns its ns[j]?) (hj : j < ns.length) (hF : ∀ hp1 : HP, ITw G ad (pDel M j) own hp1 q j (mc + 1) (ns.eraseIdx j) (its.eraseIdx j) none → F hp1) : w_J24_remove G hp q F := by
  obtain ⟨x, ⟨r0, r1, r2, r3, r4, r5⟩, h0, hi, oq, nq⟩ := h
  refine ll_remove r1 h0 hj hi (fun hp1 g1 g2 g3 g4 g5 => ?_)
  have k : ∀ b : Nat, own b ≠ 1 → b ≠ q → hp1 b = hp b := fun b b1 b2 => g4 b (fun z => b1 (by rw [z]; exact r0)) b2 (fun z => b1 (r2 b z))
  have hR : RVw G ad (pDel M j) own hp1 (ns.eraseIdx j) (its.eraseIdx j) := by
    refine ⟨r0, g1, fun a ha => r2 a (List.mem_of_mem_eraseIdx ha), List.Nodup.sublist (List.eraseIdx_sublist _ _) r3, ?_, fun i a hi2 => ?_⟩
    · show M 2 1 - 1 = _
      rw [List.length_eraseIdx_of_lt hj, r4]
      omega
    · rw [List.getElem?_eraseIdx] at hi2
      have key : ∀ i0 : Nat, its[i0]? = some a → own a = 1 ∧ hp1 a = some (roadE (M 500) i0) := fun i0 h1 => by
        obtain ⟨o1, o2⟩ := r5 i0 a h1
        refine ⟨o1, (g4 a (ne_cell o2 h0 (fun z => by cases z)) (fun z => ?_) (fun z => ?_)).trans o2⟩
        · rw [z, oq] at o1; cases o1
        · obtain ⟨i1, h3⟩ := List.getElem?_of_mem z
          rw [r1.n3 h3] at o2
          cases o2
      by_cases e : i < j
      · rw [if_pos e] at hi2
        obtain ⟨o1, o2⟩ := key i hi2
        refine ⟨o1, o2.trans (congrArg some (roadE_ext (fun k hk => ?_)))⟩
        show _ = if 5 * i + k < 5 * j then M 500 (5 * i + k) else _
        rw [if_pos (by omega)]
      · rw [if_neg e] at hi2
        obtain ⟨o1, o2⟩ := key (i + 1) hi2
        refine ⟨o1, o2.trans (congrArg some (roadE_ext (fun k hk => ?_)))⟩
        show _ = if 5 * i + k < 5 * j then _ else M 500 (5 * i + k + 5)
        rw [if_neg (by omega)]
        congr 1
        omega
  have he2 : (ns.eraseIdx j)[j]? = ns[j + 1]? := by rw [List.getElem?_eraseIdx, if_neg (Nat.lt_irrefl _)]
  refine hF hp1 ⟨x.setRoads hR (fun b b1 b2 b3 => ⟨rfl, k b b1 (fun z => ?_)⟩) (fun b hb => x.2.2.1 b (Classical.byContradiction fun z => g5 b z hb)) (fun c c1 c2 => ?_), hR, g2, by rw [he2]; exact g3, oq, nq⟩
  · subst z
    rcases b3 with b3 | ⟨c, hc, b3⟩
    · exact b3 oq
    · exact nq c hc b3
  · funext i
    unfold pDel
    rw [if_neg c1, if_neg c2]
theorem close_A {q : Nat} {r : Int} {k : HP → Int → Prop} (hr : 0 ≤ r ∧ r ≤ 1000) (hk : ∀ (hp1 : HP) (y : Int), XO G ad M own hp1 → k hp1 y) : ∀ (d N j : Nat) (y mc : Int) (ns its : List Nat) (lr : Option Nat) (hp1 : HP), ns.length ≤ 1000 → j + d = ns.length → d < N → r < y → y ≤ 3000 - d → ITw G ad M own hp1 q j mc ns its lr → w_X0_close_L24 G (ad 40) r (some q) k N hp1 y := by
  intro d
  induction d with
  | zero =>
    intro N j y mc ns its lr hp1 e0 e1 e2 e3 e4 h
    obtain ⟨N1, rfl⟩ : ∃ N1, N = N1 + 1 := ⟨N - 1, by omega⟩
    refine ⟨q, rfl, ⟨_, h.2.2.2.1⟩, h.hasNext e0 (by omega) ?_⟩
    rw [if_neg (by omega)]
    exact ⟨fun _ => hk _ _ h.1, fun z => absurd rfl z⟩
  | succ d ih =>
    intro N j y mc ns its lr hp1 e0 e1 e2 e3 e4 h
    obtain ⟨N1, rfl⟩ : ∃ N1, N = N1 + 1 := ⟨N - 1, by omega⟩
    refine ⟨q, rfl, ⟨_, h.2.2.2.1⟩, h.hasNext e0 (by omega) ?_⟩
    rw [if_pos (by omega)]
    refine ⟨fun z => absurd z (by decide), fun _ => ⟨q, rfl, ⟨_, h.2.2.2.1⟩, h.next e0 (by omega) (fun a hp2 _ _ h2 _ => ?_)⟩⟩
    refine hJn_k (fun hp3 => ITw G ad M own hp3 q (j + 1) mc ns its ns[j]?) (fun hp3 h3 => ih N1 (j + 1) (y + 1) mc ns its _ hp3 e0 (by omega) (by omega) (by omega) (by omega) h3) (fun kj hkj => ⟨fun _ => hkj _ h2, fun z => absurd (fun e => ?_) z⟩)
    rw [w32_of (by omega) (by omega), w32_of (by omega) (by omega)] at e
    omega
theorem close_B {q : Nat} {r : Nat} {k : HP → Int → Prop} (hk : ∀ (hp1 : HP) (y : Int), XO G ad (pDel M r) own hp1 → k hp1 y) : ∀ (d N j : Nat) (mc : Int) (ns its : List Nat) (lr : Option Nat) (hp1 : HP), ns.length ≤ 1000 → r < ns.length → j + d = r → ns.length - j < N → ITw G ad M own hp1 q j mc ns its lr → w_X0_close_L24 G (ad 40) r (some q) k N hp1 j := by
  intro d
  induction d with
  | zero =>
    intro N j mc ns its lr hp1 e0 er e1 e2 h
    obtain ⟨N1, rfl⟩ : ∃ N1, N = N1 + 1 := ⟨N - 1, by omega⟩
    have ej : j = r := by omega
    subst ej
    refine ⟨q, rfl, ⟨_, h.2.2.2.1⟩, h.hasNext e0 (by omega) ?_⟩
    rw [if_pos (by omega)]
    refine ⟨fun z => absurd z (by decide), fun _ => ⟨q, rfl, ⟨_, h.2.2.2.1⟩, h.next e0 (by omega) (fun a hp2 _ _ h2 _ => ?_)⟩⟩
    refine hJn_k (fun hp3 => ITw G ad (pDel M j) own hp3 q j (mc + 1) (ns.eraseIdx j) (its.eraseIdx j) none) (fun hp3 h3 => ?_) (fun kj hkj => ⟨fun z => absurd rfl z, fun _ => ⟨q, rfl, ⟨_, h2.2.2.2.1⟩, h2.remove er (fun hp4 h4 => hkj _ h4)⟩⟩)
    have hl : (ns.eraseIdx j).length = ns.length - 1 := List.length_eraseIdx_of_lt er
    exact close_A ⟨by omega, by omega⟩ hk (ns.length - 1 - j) N1 j ((j : Int) + 1) _ _ _ _ hp3 (by omega) (by omega) (by omega) (by omega) (by omega) h3
  | succ d ih =>
    intro N j mc ns its lr hp1 e0 er e1 e2 h
    obtain ⟨N1, rfl⟩ : ∃ N1, N = N1 + 1 := ⟨N - 1, by omega⟩
    refine ⟨q, rfl, ⟨_, h.2.2.2.1⟩, h.hasNext e0 (by omega) ?_⟩
    rw [if_pos (by omega)]
    refine ⟨fun z => absurd z (by decide), fun _ => ⟨q, rfl, ⟨_, h.2.2.2.1⟩, h.next e0 (by omega) (fun a hp2 _ _ h2 _ => ?_)⟩⟩
    refine hJn_k (fun hp3 => ITw G ad M own hp3 q (j + 1) mc ns its ns[j]?) (fun hp3 h3 => ?_) (fun kj hkj => ⟨fun _ => hkj _ h2, fun z => absurd (fun e => ?_) z⟩)
    · exact ih N1 (j + 1) mc ns its _ hp3 e0 er (by omega) (by omega) h3
    · rw [w32_of (by omega) (by omega), w32_of (by omega) (by omega)] at e
      omega
end XCL
def f_X0_close (M : RM) (r : Int) : Option (Int × RM) := if ¬ pRoad M r then some (-1, M) else ob (f_X0_steps M) fun M1 => if r = (r.toNat : Int) ∧ r < M1 2 1 then some (pDel M1 r.toNat 2 1, pDel M1 r.toNat) else none
theorem mx_X0_close (l : Launch) (G : GG) (ad : Nat → Nat) (M : RM) (r : Int) {out : Int × RM} (hE : f_X0_close M r = some out) : MX l yX0_close (ws_ yX0_close cX0_close 4 (some .int)) 7 30 171 G ad [.ref (ad 40), vI r] M (Zd (some (vI out.1)) out.2) := by
  unfold f_X0_close at hE
  refine MX.ofO zI (fun own hp x => mh_X0_close l G hp (ad 40) r _ ⟨x.isT, x.isRoad (fun g => ⟨fun _ => ?_, fun z => absurd (by decide) z⟩) (fun g => ⟨fun z => absurd rfl z, fun _ => ?_⟩)⟩)
  · rw [if_neg (fun z => z g)] at hE
    obtain ⟨M2, h2, hE2⟩ := ob_some hE
    unfold f_X0_steps at h2
    by_cases g3 : M 2 1 ≤ 24 ∧ M 8 0 ≤ 12
    · rw [if_pos g3] at h2
      cases h2
      by_cases g4 : r = (r.toNat : Int) ∧ r < pSteps M 2 1
      · rw [if_pos g4] at hE2
        cases hE2
        refine ⟨x.isT, x.steps g3.1 g3.2 (fun own1 hp1 x1 => ?_)⟩
        have hb : pSteps M 2 1 ≤ 24 := by rw [pSteps_n]; exact g3.1
        refine x1.refF (k := 2) rfl ⟨ad 2, rfl, x1.recR, x1.iter (by omega) (fun q mc ns its hp2 e0 e1 h e2 => ⟨ns.length + 1, ?_⟩)⟩
        have := close_B (G := G) (ad := ad) (M := pSteps M) (own := own1) (q := q) (r := r.toNat) (k := fun hp19 v20 => hR hp19 (ad 40) 0 2 fun r21 => hNn r21 fun b22 => hIs hp19 b22 12 (w_J3_size G hp19 b22 (fun v24 hp23 => v24 = pDel (pSteps M) r.toNat 2 1 ∧ ∃ own2 : Nat → Nat, XO G ad (pDel (pSteps M) r.toNat) own2 hp23))) (fun hp3 y x3 => x3.refF (k := 2) rfl ⟨ad 2, rfl, x3.recR, x3.size ⟨rfl, own1, x3⟩⟩) r.toNat (ns.length + 1) 0 mc ns its none hp2 e0 (by omega) (by omega) (by omega) h
        rw [← g4.1] at this
        exact this
      · rw [if_neg g4] at hE2; cases hE2
    · rw [if_neg g3] at h2; cases h2
  · rw [if_pos g] at hE
    cases hE
    exact ⟨rfl, own, x⟩
