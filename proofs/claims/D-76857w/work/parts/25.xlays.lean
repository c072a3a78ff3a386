/-! 25 XLAYS: a net is laid -/
set_option maxRecDepth 100000
section XLY
variable {G : GG} {ad : Nat → Nat} {M M1 : RM} {own own1 : Nat → Nat} {hp hp1 : HP}
theorem XO.sub {D1 : rw_D} (x : XO G ad M own hp) (hs : subD D1 dX) (h40 : D1 40 = none) (hP1 : RP G D1 ad M1 hp1) (hF1 : Fr D1 ad hp hp1) : XO G ad (mg D1 M1 M) own hp1 := by
  obtain ⟨h0, h1, h3, h4⟩ := x
  have hn1 : ∀ c : Nat, D1 c ≠ none → dX c ≠ none := fun c hc z => by
    cases hd : D1 c with
    | none => exact hc hd
    | some q => rw [hs c q hd] at z; cases z
  have hk : ∀ a : Nat, own a ≠ 0 → hp1 a = hp a := fun a ha => hF1 a (fun c hc e => ha (by rw [e]; exact h1 c (hn1 c hc)))
  refine ⟨⟨fun c q hc => ?_, h0.2⟩, h1, fun a ha => Classical.byContradiction fun z => z (h3 a ?_), ?_⟩
  · cases hd : D1 c with
    | some q1 =>
      have e : q1 = q := Option.some.inj ((hs c q1 hd).symm.trans hc)
      subst e
      rw [mg_s hd]
      exact hP1.1 c q1 hd
    | none =>
      rw [mg_n hd, ← h0.1 c q hc]
      refine hF1 (ad c) (fun c' hc' e => ?_)
      have e2 := h0.2 c c' (by rw [hc]; exact fun z => by cases z) (hn1 c' hc') e
      subst e2
      exact hc' hd
  · rw [← hk a z]; exact ha
  · rw [vw_mg hs h40]
    have e : rst own hp1 = rst own hp := by
      funext a
      unfold rst
      by_cases g : own a = 0
      · rw [if_pos g, if_pos g]
      · rw [if_neg g, if_neg g, hk a g]
    rw [e]
    exact h4
theorem ITw.move {q j : Nat} {mc : Int} {ns its : List Nat} {lr : Option Nat} (h : ITw G ad M own hp q j mc ns its lr) (x1 : XO G ad M1 own hp1) (hk : ∀ b : Nat, own b ≠ 0 ∨ b = q → hp1 b = hp b) (v1 : M1 2 1 = M 2 1) (v2 : M1 500 = M 500) : ITw G ad M1 own hp1 q j mc ns its lr := by
  obtain ⟨x, ⟨r0, r1, r2, r3, r4, r5⟩, h0, hi, oq, nq⟩ := h
  have k1 : ∀ b : Nat, own b = 1 → hp1 b = hp b := fun b hb => hk b (Or.inl (by rw [hb]; decide))
  exact ⟨x1, ⟨r0, r1.fr (k1 _ r0) (fun n hn => k1 n (r2 n hn)), r2, r3, v1.trans r4, fun i a hi => ⟨(r5 i a hi).1, by rw [v2, k1 a (r5 i a hi).1]; exact (r5 i a hi).2⟩⟩, (k1 _ r0).trans h0, (hk q (Or.inr rfl)).trans hi, oq, nq⟩
def fLays (b : Nat) (M : RM) : Nat → Option RM
  | 0 => some (up2 (up2 M (b + 20) 12 (M 40 0)) (b + 20) 13 0)
  | j + 1 => ob (fLays b M j) fun M1 => ob (f_X1_adds b M1 (M 500 (5 * j)) (M 500 (5 * j + 1)) (M 500 (5 * j + 2)) (M 500 (5 * j + 3)) (M 500 (5 * j + 4))) fun M2 => some (mg (dN b) M2 M1)
def f_X0_lays (M : RM) (b : Nat) : Option RM := if (b = 100 ∨ b = 200 ∨ b = 300) ∧ M 2 1 ≤ 24 then ob (fLays b M (M 2 1).toNat) fun M1 => some (setc M1 (b + 6) (fun j => if (j : Int) < 8 then M 1 j else M1 (b + 6) j)) else none
theorem fLays_none {b : Nat} {M : RM} {j : Nat} (h : fLays b M j = none) : ∀ d : Nat, fLays b M (j + d) = none
  | 0 => h
  | d + 1 => by show ob (fLays b M (j + d)) _ = none; rw [fLays_none h d]; rfl
theorem fLays_v {b : Nat} (hb : b = 100 ∨ b = 200 ∨ b = 300) {M : RM} : ∀ (j : Nat) {M1 : RM}, fLays b M j = some M1 → M1 2 1 = M 2 1 ∧ M1 500 = M 500 ∧ M1 1 = M 1
  | 0, M1, h => by
    cases h
    refine ⟨?_, ?_, ?_⟩
    · rw [up2_c (by omega), up2_c (by omega)]
    · funext k; rw [up2_c (by omega), up2_c (by omega)]
    · funext k; rw [up2_c (by omega), up2_c (by omega)]
  | j + 1, M1, h => by
    obtain ⟨M2, h2, h⟩ := ob_some h
    obtain ⟨M3, h3, h⟩ := ob_some h
    cases h
    obtain ⟨e1, e2, e3⟩ := fLays_v hb j h2
    have n1 : dN b 2 = none := by rcases hb with rfl | rfl | rfl <;> rfl
    have n2 : dN b 500 = none := by rcases hb with rfl | rfl | rfl <;> rfl
    have n3 : dN b 1 = none := by rcases hb with rfl | rfl | rfl <;> rfl
    exact ⟨by rw [mg_n n1]; exact e1, by rw [mg_n n2]; exact e2, by rw [mg_n n3]; exact e3⟩
theorem lays_loop {b q : Nat} (hb : b = 100 ∨ b = 200 ∨ b = 300) (hN : NB dX b) {n : Nat} {k : HP → Prop} {out : RM} (hE : fLays b M n = some out) (hk : ∀ hp1 : HP, XO G ad out own hp1 → k hp1) : ∀ (d j : Nat) (mc : Int) (ns its : List Nat) (lr : Option Nat) (M1 : RM) (hp1 : HP), ns.length ≤ 1000 → ns.length = n → j + d = n → fLays b M j = some M1 → ITw G ad M1 own hp1 q j mc ns its lr → w_X0_lays_L21 G (ad 40) (some (ad (b + 20))) (some q) k (d + 1) hp1 := by
  intro d
  induction d with
  | zero =>
    intro j mc ns its lr M1 hp1 e0 en e1 hj h
    refine ⟨q, rfl, ⟨_, h.2.2.2.1⟩, h.hasNext e0 (by omega) ?_⟩
    rw [if_neg (by omega)]
    refine ⟨fun _ => ?_, fun z => absurd rfl z⟩
    have ej : j = n := by omega
    rw [ej, hE] at hj
    cases hj
    exact hk _ h.1
  | succ d ih =>
    intro j mc ns its lr M1 hp1 e0 en e1 hj h
    refine ⟨q, rfl, ⟨_, h.2.2.2.1⟩, h.hasNext e0 (by omega) ?_⟩
    rw [if_pos (by omega)]
    refine ⟨fun z => absurd z (by decide), fun _ => ⟨q, rfl, ⟨_, h.2.2.2.1⟩, h.next e0 (by omega) (fun a hp2 _ o2 h2 _ => ?_)⟩⟩
    obtain ⟨v1, v2, -⟩ := fLays_v hb j hj
    rw [v2] at o2
    have hx := h2.1
    have hnet : hp2 (ad (b + 20)) = some (rwc G ad (M1 (b + 20)) (.inr (1, netF b))) := hx.1.1 (b + 20) _ (hN 20 _ rfl)
    refine ⟨fun b hb => (by cases hb; exact ⟨_, o2⟩), a, rfl, _, M 500 (5 * j), o2, rfl, a, rfl, _, M 500 (5 * j + 1), o2, rfl, a, rfl, _, M 500 (5 * j + 2), o2, rfl, a, rfl, _, M 500 (5 * j + 3), o2, rfl, a, rfl, _, M 500 (5 * j + 4), o2, rfl, ad (b + 20), rfl, ⟨_, hnet⟩, ?_⟩
    cases hA : f_X1_adds b M1 (M 500 (5 * j)) (M 500 (5 * j + 1)) (M 500 (5 * j + 2)) (M 500 (5 * j + 3)) (M 500 (5 * j + 4)) with
    | none =>
      have : fLays b M (j + 1) = none := by
        show ob (fLays b M j) _ = none
        rw [hj]
        show ob (f_X1_adds b M1 _ _ _ _ _) _ = none
        rw [hA]
        rfl
      have := fLays_none this d
      rw [show j + 1 + d = n by omega, hE] at this
      cases this
    | some M2 =>
      have hs : subD (dN b) dX := subN hN
      have h40 : dN b 40 = none := by rcases hb with rfl | rfl | rfl <;> rfl
      refine ⟨ad, b, M1, M2, rfl, hx.1.sub hs, hA, fun hp3 p1 p2 => ?_⟩
      have hj1 : fLays b M (j + 1) = some (mg (dN b) M2 M1) := by
        show ob (fLays b M j) _ = _
        rw [hj]
        show ob (f_X1_adds b M1 _ _ _ _ _) _ = _
        rw [hA]
        rfl
      obtain ⟨w1, w2, -⟩ := fLays_v hb (j + 1) hj1
      have hn1 : ∀ c : Nat, dN b c ≠ none → dX c ≠ none := fun c hc z => by
        cases hd : dN b c with
        | none => exact hc hd
        | some q => rw [hs c q hd] at z; cases z
      refine ih (j + 1) mc ns its _ _ hp3 e0 en (by omega) hj1 (h2.move (hx.sub hs h40 p1 p2) (fun c hc => p2 c (fun c' hc' e => ?_)) (w1.trans v1.symm) (w2.trans v2.symm))
      rcases hc with hc | hc
      · exact hc (by rw [e]; exact hx.2.1 c' (hn1 c' hc'))
      · subst hc
        exact h2.2.2.2.2.2 c' (hn1 c' hc') e
end XLY
theorem XO.putO {G : GG} {ad : Nat → Nat} {M : RM} {own : Nat → Nat} {hp : HP} {c ci k : Nat} {fds : List (Nat × Nat)} {v : Int} {F : HP → Prop} (h : XO G ad M own hp) (hd : dX c = some (.inr (ci, fds))) (hc : c ≠ 40) (hf : fds[k]? = some (0, 0)) (hF : ∀ hp1 : HP, XO G ad (up2 M c k v) own hp1 → (∀ b : Nat, b ≠ ad c → hp1 b = hp b) → F hp1) : hPut hp (ad c) ci k (vI v) F := by
  refine ⟨_, h.1.1 c _ hd, by rw [List.length_mapIdx]; exact (List.getElem?_eq_some_iff.mp hf).1, ?_⟩
  refine hF _ ?_ (fun b hb => hup_n hb)
  rw [up2_setc]
  refine h.cell hd (fun e => absurd e hc) ?_
  show _ = Sum.inr (ci, _)
  rw [← mapIdx_set hf]
  rfl
theorem XO.refO {G : GG} {ad : Nat → Nat} {M : RM} {own : Nat → Nat} {hp : HP} {c ci k c1 : Nat} {fds : List (Nat × Nat)} {F : Option Nat → Prop} (h : XO G ad M own hp) (hd : dX c = some (.inr (ci, fds))) (hf : fds[k]? = some (2, c1)) (hF : F (some (ad c1))) : hR hp (ad c) ci k F := ⟨_, some (ad c1), h.1.1 c _ hd, by rw [List.getElem?_mapIdx, hf]; rfl, hF⟩
theorem XO.lays {G : GG} {ad : Nat → Nat} {M : RM} {own : Nat → Nat} {hp : HP} {b : Nat} (hN : NB dX b) {out : RM} {F : HP → Prop} (x : XO G ad M own hp) (hE : f_X0_lays M b = some out) (hF : ∀ hp1 : HP, XO G ad out own hp1 → F hp1) : w_X0_lays G hp (ad 40) (some (ad (b + 20))) F := by
  unfold f_X0_lays at hE
  by_cases g : (b = 100 ∨ b = 200 ∨ b = 300) ∧ M 2 1 ≤ 24
  · rw [if_pos g] at hE
    obtain ⟨hb, g⟩ := g
    obtain ⟨M1, h1, h2⟩ := ob_some hE
    cases h2
    have d20 : dX (b + 20) = some (.inr (1, netF b)) := hN 20 _ rfl
    have d6 : dX (b + 6) = some (.inl (0, 8)) := hN 6 _ rfl
    obtain ⟨v1, v2, v3⟩ := fLays_v hb _ h1
    refine x.intF (k := 0) rfl ⟨ad (b + 20), rfl, x.putO (k := 12) d20 (by omega) rfl (fun hp3 x3 _ => ⟨ad (b + 20), rfl, x3.putO (k := 13) d20 (by omega) rfl (fun hp5 x5 _ => ?_)⟩)⟩
    have e21 : up2 (up2 M (b + 20) 12 (M 40 0)) (b + 20) 13 0 2 1 = M 2 1 := by rw [up2_c (by omega), up2_c (by omega)]
    refine x5.refF (k := 2) rfl ⟨ad 2, rfl, x5.recR, x5.iter (by rw [e21]; omega) (fun q mc ns its hp8 e0 e1 h _ => ⟨(M 2 1).toNat + 1, ?_⟩)⟩
    rw [e21] at e1
    refine lays_loop (G := G) (ad := ad) (M := M) (own := own) (q := q) hb hN h1 (fun hp28 x28 => ?_) (M 2 1).toNat 0 mc ns its none _ hp8 e0 (by omega) (by omega) rfl h
    refine x28.refF (k := 1) rfl ⟨ad (b + 20), rfl, x28.refO (k := 6) d20 rfl ⟨ad (b + 6), rfl, ad 1, rfl, ?_⟩⟩
    have e1c : hp28 (ad 1) = some (.inl (G.2.1 0, (8, .inl (fun j => Int32.ofInt (M1 1 j))))) := x28.1.1 1 _ rfl
    rw [v3] at e1c
    exact x28.copyI (c := b + 6) (n := 8) d6 (by omega) e1c (by decide) (fun hp34 x34 _ => hF hp34 x34)
  · rw [if_neg g] at hE; cases hE
theorem mx_X0_lays (l : Launch) (G : GG) (ad : Nat → Nat) (M : RM) (b : Nat) (hN : NB dX b) {out : RM} (hE : f_X0_lays M b = some out) : MX l yX0_lays (ws_ yX0_lays cX0_lays 4 none) 5 1 5 G ad [.ref (ad 40), .ref (ad (b + 20))] M (Zd none out) :=
  MX.ofO zV (fun own hp x => mh_X0_lays l G hp (ad 40) (some (ad (b + 20))) _ (x.lays hN hE (fun hp1 x1 => ⟨own, x1⟩)))
