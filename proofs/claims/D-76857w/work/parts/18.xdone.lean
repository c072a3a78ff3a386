/-! 18 XDONE: steps done, back -/
set_option maxRecDepth 100000
def pPush (M : RM) : RM := fun c j => if c = 8 then (if j = 0 then M 8 0 + 1 else M 8 j) else if c = 503 then (if 130 * (M 8 0).toNat ≤ j ∧ j < 130 * (M 8 0).toNat + 130 then shotF M (j - 130 * (M 8 0).toNat) else M 503 j) else M c j
def pShift (M : RM) : RM := fun c j => if c = 8 then (if j = 0 then M 8 0 - 1 else M 8 j) else if c = 503 then M 503 (j + 130) else M c j
def pPop (M : RM) : RM := up2 M 8 0 (M 8 0 - 1)
def pCh (M : RM) : RM := up2 (up2 (up2 M 40 5 0) 40 6 0) 40 7 0
def pSteps (M : RM) : RM := pCh (if M 8 0 + 1 ≤ 12 then pPush M else pShift (pPush M))
section XDN
variable {G : GG} {ad : Nat → Nat} {M M1 : RM} {own own1 : Nat → Nat} {hp hp1 : HP}
theorem shotE.mv {t t1 a : Nat} {f : Nat → Int} (h : shotE G own t hp a f) (k : ∀ (b : Nat) (e : va_E), own b = t → hp b = some e → (∀ fs : List Value, e ≠ .inr (20, fs)) → (∀ c x, e ≠ .inl (c, (15, x))) → own1 b = t1 ∧ hp1 b = some e) : shotE G own1 t1 hp1 a f := by
  obtain ⟨h0, sa, ra, g, h1, h2, h3, ⟨s, h4, h8⟩, h5, h6, h7⟩ := h
  have k0 := k _ _ h0 h3 (fun fs z => by cases z) (fun c x z => by cases z)
  have k1 := k _ _ h1 h4 (fun fs z => by cases z) (fun c x z => absurd (Prod.mk.inj (Prod.mk.inj (Sum.inl.inj z)).2).1 (by decide))
  have k2 := k _ _ h2 h5 (fun fs z => by cases z) (fun c x z => absurd (Prod.mk.inj (Prod.mk.inj (Sum.inl.inj z)).2).1 (by decide))
  refine ⟨k0.1, sa, ra, g, k1.1, k2.1, k0.2, ⟨s, k1.2, h8⟩, k2.2, h6, fun i hi => ?_⟩
  obtain ⟨r, q1, q2, q3⟩ := h7 i hi
  have k3 := k _ _ q2 q3 (fun fs z => by cases z) (fun c x z => by cases z)
  exact ⟨r, q1, k3.1, k3.2⟩
theorem shotE.cg {t a : Nat} {f f1 : Nat → Int} (h : shotE G own t hp a f) (hf : ∀ j : Nat, j < 130 → f1 j = f j) : shotE G own t hp a f1 := by
  obtain ⟨h0, sa, ra, g, h1, h2, h3, ⟨s, h4, h8⟩, h5, h6, h7⟩ := h
  refine ⟨h0, sa, ra, g, h1, h2, by rw [hf 0 (by decide), hf 1 (by decide)]; exact h3, ⟨s, h4, fun j hj => (h8 j hj).trans (hf _ (by omega)).symm⟩, h5, by rw [hf 1 (by decide)]; exact h6, fun i hi => ?_⟩
  rw [hf 1 (by decide)] at hi
  obtain ⟨r, q1, q2, q3⟩ := h7 i hi
  refine ⟨r, q1, q2, q3.trans ?_⟩
  congr 1
  refine roadE_ext (fun k hk => (hf _ ?_).symm)
  have := h6.2
  omega
/-- the steps done as they lie on the heap -/
def DVw (G : GG) (ad : Nat → Nat) (M : RM) (own : Nat → Nat) (hp : HP) (h n : Nat) (g : Nat → Option Nat) : Prop := own (ad 8) = 4 ∧ own (ad 41) = 4 ∧ hp (ad 8) = some (adE (ad 41) h n) ∧ hp (ad 41) = some (adA G g) ∧ h < 15 ∧ n ≤ 13 ∧ M 8 0 = n ∧ ∀ i : Nat, i < n → ∃ a : Nat, g ((h + i) % 15) = some a ∧ shotE G own 4 hp a (fun k => M 503 (130 * i + k))
theorem XO.done (x : XO G ad M own hp) : ∃ (h n : Nat) (g : Nat → Option Nat), DVw G ad M own hp h n g := by
  obtain ⟨-, -, -, -, -, -, ⟨d0, d1, h, n, g, d2, d3, d4, d5, d6, d7⟩, -⟩ := x
  rw [vw_v rfl] at d6 d7
  exact ⟨h, n, g, d0, d1, (rst_some d2).2, (rst_some d3).2, d4, d5, d6, fun i hi => by
    obtain ⟨a, q1, q2⟩ := d7 i hi
    exact ⟨a, q1, q2.mv (fun b e b1 b2 _ _ => ⟨b1, (rst_some b2).2⟩)⟩⟩
theorem DVw.dy {h n : Nat} {g : Nat → Option Nat} (x : DVw G ad M own hp h n g) : dyDone G ad (vw M) own (rst own hp) := by
  obtain ⟨d0, d1, d2, d3, d4, d5, d6, d7⟩ := x
  refine ⟨d0, d1, h, n, g, (rst_t d0).trans d2, (rst_t d1).trans d3, d4, d5, by rw [vw_v rfl]; exact d6, fun i hi => ?_⟩
  obtain ⟨a, q1, q2⟩ := d7 i hi
  rw [vw_v rfl]
  exact ⟨a, q1, q2.mv (fun b e b1 b2 _ _ => ⟨b1, (rst_t b1).trans b2⟩)⟩
theorem XO.pushShot {hp0 : HP} {a : Nat} {F : HP → Prop} (x0 : XO G ad M own hp0) (hx : ∀ b : Nat, hp0 b ≠ none → hp b = hp0 b) (hs : ∀ t : Nat, shotE G (fun b => if hp0 b = none then t else 0) t hp a (shotF M)) (hn : M 8 0 ≤ 12) (hF : ∀ (own1 : Nat → Nat) (hp1 : HP), XO G ad (pPush M) own1 hp1 → F hp1) : w_J22_addLast G hp (ad 8) (some a) F := by
  have x := x0.ext hx
  obtain ⟨h, n, g, d0, d1, d2, d3, d4, d5, d6, d7⟩ := x.done
  have ha : ∃ fs : List Value, hp a = some (.inr (6, fs)) := by
    obtain ⟨-, sa, ra, g, -, -, q, -⟩ := hs 1
    exact ⟨_, q⟩
  refine ad_addLast d4 d5 d2 d3 ha (fun hp1 g1 g2 g3 => ?_)
  have o0 : ∀ b : Nat, own b ≠ 0 → hp0 b ≠ none := fun b hb z => hb (x0.2.2.1 b z)
  have ho : ∀ b : Nat, own b ≠ 0 → (if hp0 b = none ∧ hp b ≠ none then 4 else own b) = own b := fun b hb => if_neg (fun z => o0 b hb z.1)
  refine hF (fun b => if hp0 b = none ∧ hp b ≠ none then 4 else own b) hp1 (x.setDone (DVw.dy (h := h) (n := n + 1) ⟨(ho _ (by rw [d0]; decide)).trans d0, (ho _ (by rw [d1]; decide)).trans d1, g1, g2, d4, by omega, ?_, fun i hi => ?_⟩) (fun b b1 b2 b3 => ?_) (fun b hb => ?_) (fun c c1 c2 => ?_))
  · show (if (8 : Nat) = 8 then (if (0 : Nat) = 0 then M 8 0 + 1 else M 8 0) else _) = _
    rw [if_pos rfl, if_pos rfl, d6]
    rfl
  · by_cases e : i < n
    · obtain ⟨a1, q1, q2⟩ := d7 i e
      refine ⟨a1, ?_, (q2.mv (t1 := 4) (own1 := fun b => if hp0 b = none ∧ hp b ≠ none then 4 else own b) (hp1 := hp1) (fun b e b1 b2 b8 b9 => ⟨?_, ?_⟩)).cg (fun j hj => ?_)⟩
      · show (if (h + i) % 15 = (h + n) % 15 then some a else g ((h + i) % 15)) = some a1
        rw [if_neg (by omega)]
        exact q1
      · exact (ho _ (by rw [b1]; decide)).trans b1
      · rw [g3 b (fun z => ?_) (fun z => ?_)]
        · exact b2
        · rw [z, d2] at b2
          exact b8 _ (Option.some.inj b2).symm
        · rw [z, d3] at b2
          exact b9 _ _ (Option.some.inj b2).symm
      · show (if (503 : Nat) = 8 then _ else if (503 : Nat) = 503 then (if 130 * (M 8 0).toNat ≤ 130 * i + j ∧ 130 * i + j < 130 * (M 8 0).toNat + 130 then _ else M 503 (130 * i + j)) else _) = _
        rw [if_neg (by decide), if_pos rfl, if_neg (by omega)]
    · have e1 : i = n := by omega
      subst e1
      refine ⟨a, ?_, ((hs 4).mv (t1 := 4) (own1 := fun b => if hp0 b = none ∧ hp b ≠ none then 4 else own b) (hp1 := hp1) (fun b e b1 b2 _ _ => ?_)).cg (fun j hj => ?_)⟩
      · exact if_pos rfl
      · have b3 : hp0 b = none := Classical.byContradiction fun z => by
          have : (if hp0 b = none then 4 else 0) = 4 := b1
          rw [if_neg z] at this
          cases this
        refine ⟨if_pos ⟨b3, fun z => by rw [z] at b2; cases b2⟩, ?_⟩
        rw [g3 b (fun z => o0 _ (by rw [d0]; decide) (z ▸ b3)) (fun z => o0 _ (by rw [d1]; decide) (z ▸ b3))]
        exact b2
      · show (if (503 : Nat) = 8 then _ else if (503 : Nat) = 503 then (if 130 * (M 8 0).toNat ≤ 130 * i + j ∧ 130 * i + j < 130 * (M 8 0).toNat + 130 then shotF M (130 * i + j - 130 * (M 8 0).toNat) else _) else _) = _
        rw [if_neg (by decide), if_pos rfl, if_pos (by omega)]
        congr 1
        omega
  · have b4 : hp0 b ≠ none := by
      rcases b3 with b3 | ⟨c, hc, b3⟩
      · exact o0 b b3
      · exact x0.al (Or.inr ⟨c, hc, b3⟩)
    exact ⟨if_neg (fun z => b4 z.1), g3 b (fun z => b1 (by rw [z]; exact d0)) (fun z => b1 (by rw [z]; exact d1))⟩
  · show (if hp0 b = none ∧ hp b ≠ none then 4 else own b) = 0
    have b1 : hp b = none := by
      by_cases e1 : b = ad 8
      · rw [e1, g1] at hb; cases hb
      · by_cases e2 : b = ad 41
        · rw [e2, g2] at hb; cases hb
        · rw [← g3 b e1 e2]; exact hb
    rw [if_neg (fun z => z.2 b1)]
    exact x.2.2.1 b b1
  · funext j
    unfold pPush
    rw [if_neg c1, if_neg c2]
theorem XO.shift {F : Option Nat → HP → Prop} (x : XO G ad M own hp) (hn : 1 ≤ M 8 0) (hF : ∀ (r : Nat) (hp1 : HP), XO G ad (pShift M) own hp1 → F (some r) hp1) : w_J22_removeFirst G hp (ad 8) F := by
  obtain ⟨h, n, g, d0, d1, d2, d3, d4, d5, d6, d7⟩ := x.done
  obtain ⟨a0, q0, -⟩ := d7 0 (by omega)
  rw [show (h + 0) % 15 = h by omega] at q0
  refine ad_removeFirst d4 (by omega) (by omega) d2 d3 q0 (fun hp1 g1 g2 g3 => ?_)
  refine hF a0 hp1 (x.setDone (DVw.dy (h := (h + 1) % 15) (n := n - 1) ⟨d0, d1, g1, g2, by omega, by omega, ?_, fun i hi => ?_⟩) (fun b b1 b2 b3 => ⟨rfl, g3 b (fun z => b1 (by rw [z]; exact d0)) (fun z => b1 (by rw [z]; exact d1))⟩) (fun b hb => ?_) (fun c c1 c2 => ?_))
  · show (if (8 : Nat) = 8 then (if (0 : Nat) = 0 then M 8 0 - 1 else M 8 0) else _) = _
    rw [if_pos rfl, if_pos rfl, d6]
    omega
  · obtain ⟨a1, q1, q2⟩ := d7 (i + 1) (by omega)
    refine ⟨a1, ?_, (q2.mv (t1 := 4) (own1 := own) (hp1 := hp1) (fun b e b1 b2 b8 b9 => ⟨b1, ?_⟩)).cg (fun j hj => ?_)⟩
    · show (if ((h + 1) % 15 + i) % 15 = h then none else g (((h + 1) % 15 + i) % 15)) = some a1
      rw [if_neg (by omega), show ((h + 1) % 15 + i) % 15 = (h + (i + 1)) % 15 by omega]
      exact q1
    · rw [g3 b (fun z => ?_) (fun z => ?_)]
      · exact b2
      · rw [z, d2] at b2
        exact b8 _ (Option.some.inj b2).symm
      · rw [z, d3] at b2
        exact b9 _ _ (Option.some.inj b2).symm
    · show (if (503 : Nat) = 8 then _ else if (503 : Nat) = 503 then M 503 (130 * i + j + 130) else _) = _
      rw [if_neg (by decide), if_pos rfl]
      congr 1
      omega
  · by_cases e1 : b = ad 8
    · rw [e1, g1] at hb; cases hb
    · by_cases e2 : b = ad 41
      · rw [e2, g2] at hb; cases hb
      · rw [g3 b e1 e2] at hb; exact x.2.2.1 b hb
  · funext j
    unfold pShift
    rw [if_neg c1, if_neg c2]
theorem XO.pop {F : Option Nat → HP → Prop} (x : XO G ad M own hp) (hn : 1 ≤ M 8 0) (hF : ∀ (r : Nat) (hp1 : HP), XO G ad (pPop M) own hp1 → shotE G own 4 hp1 r (fun k => M 503 (130 * (M 8 0 - 1).toNat + k)) → F (some r) hp1) : w_J22_removeLast G hp (ad 8) F := by
  obtain ⟨h, n, g, d0, d1, d2, d3, d4, d5, d6, d7⟩ := x.done
  obtain ⟨a0, q0, q9⟩ := d7 (n - 1) (by omega)
  refine ad_removeLast d4 (by omega) (by omega) d2 d3 q0 (fun hp1 g1 g2 g3 => ?_)
  have mv : ∀ {a : Nat} {f : Nat → Int}, shotE G own 4 hp a f → shotE G own 4 hp1 a f := fun q2 => q2.mv (t1 := 4) (own1 := own) (hp1 := hp1) (fun b e b1 b2 b8 b9 => ⟨b1, by
    rw [g3 b (fun z => ?_) (fun z => ?_)]
    · exact b2
    · rw [z, d2] at b2
      exact b8 _ (Option.some.inj b2).symm
    · rw [z, d3] at b2
      exact b9 _ _ (Option.some.inj b2).symm⟩)
  refine hF a0 hp1 (x.setDone (DVw.dy (h := h) (n := n - 1) ⟨d0, d1, g1, g2, by omega, by omega, ?_, fun i hi => ?_⟩) (fun b b1 b2 b3 => ⟨rfl, g3 b (fun z => b1 (by rw [z]; exact d0)) (fun z => b1 (by rw [z]; exact d1))⟩) (fun b hb => ?_) (fun c c1 c2 => ?_)) ?_
  · show up2 M 8 0 (M 8 0 - 1) 8 0 = _
    rw [up2_s, d6]
    omega
  · obtain ⟨a1, q1, q2⟩ := d7 i (by omega)
    refine ⟨a1, ?_, (mv q2).cg (fun j hj => ?_)⟩
    · show (if (h + i) % 15 = (h + (n - 1)) % 15 then none else g ((h + i) % 15)) = some a1
      rw [if_neg (by omega)]
      exact q1
    · exact up2_c (by decide)
  · by_cases e1 : b = ad 8
    · rw [e1, g1] at hb; cases hb
    · by_cases e2 : b = ad 41
      · rw [e2, g2] at hb; cases hb
      · rw [g3 b e1 e2] at hb; exact x.2.2.1 b hb
  · funext j
    exact up2_c c1
  · have := mv q9
    rw [show (M 8 0 - 1).toNat = n - 1 by omega]
    exact this
theorem XO.clearDone {F : HP → Prop} (x : XO G ad M own hp) (hF : ∀ hp1 : HP, XO G ad (up2 M 8 0 0) own hp1 → F hp1) : w_J22_clear G hp (ad 8) F := by
  obtain ⟨h, n, g, d0, d1, d2, d3, d4, d5, d6, d7⟩ := x.done
  refine ad_clear d4 d2 d3 (fun hp1 g1 e1 e2 e3 => ?_)
  refine hF hp1 (x.setDone (DVw.dy (h := 0) (n := 0) ⟨d0, d1, e1, e2, by omega, by omega, up2_s _ _ _ _, fun i hi => absurd hi (Nat.not_lt_zero _)⟩) (fun b b1 b2 b3 => ⟨rfl, e3 b (fun z => b1 (by rw [z]; exact d0)) (fun z => b1 (by rw [z]; exact d1))⟩) (fun b hb => ?_) (fun c c1 c2 => by funext j; exact up2_c c1))
  by_cases q1 : b = ad 8
  · rw [q1, e1] at hb; cases hb
  · by_cases q2 : b = ad 41
    · rw [q2, e2] at hb; cases hb
    · rw [e3 b q1 q2] at hb; exact x.2.2.1 b hb
theorem XO.dsize {F : Int → HP → Prop} (x : XO G ad M own hp) (hF : F (M 8 0) hp) : w_J22_size G hp (ad 8) F := by
  obtain ⟨h, n, g, d0, d1, d2, d3, d4, d5, d6, -⟩ := x.done
  refine ⟨_, (((h + n) % 15 : Nat) : Int), d2, rfl, _, (h : Int), d2, rfl, _, some (ad 41), d2, rfl, _, rfl, 15, _, d3, ?_⟩
  have hw : w32 ((((h + n) % 15 : Nat) : Int) - (h : Int)) = (((h + n) % 15 : Nat) : Int) - (h : Int) := w32_of (by omega) (by omega)
  refine ⟨fun q => ?_, fun q => ?_⟩
  · rw [hw] at q
    rw [show M 8 0 = (((h + n) % 15 : Nat) : Int) - (h : Int) by omega] at hF
    exact hF
  · rw [hw] at q
    rw [show M 8 0 = (((h + n) % 15 : Nat) : Int) - (h : Int) + ((15 : Nat) : Int) by omega] at hF
    exact hF
theorem XO.dempty {F : Int → HP → Prop} (x : XO G ad M own hp) (hF : F (if M 8 0 = 0 then 1 else 0) hp) : w_J22_isEmpty G hp (ad 8) F := by
  obtain ⟨h, n, g, d0, d1, d2, d3, d4, d5, d6, -⟩ := x.done
  refine ad_isEmpty d4 d5 d2 ?_
  by_cases e : n = 0
  · rw [if_pos e]
    rw [if_pos (by omega)] at hF
    exact hF
  · rw [if_neg e]
    rw [if_neg (by omega)] at hF
    exact hF
theorem XO.size {F : Int → HP → Prop} (x : XO G ad M own hp) (hF : F (M 2 1) hp) : w_J3_size G hp (ad 2) F := by
  obtain ⟨ns, its, r0, r1, r2, r3, r4, -⟩ := x.roads
  obtain ⟨mc, hm⟩ := r1.1
  rw [r4] at hF
  exact ⟨_, (ns.length : Int), hm, rfl, hF⟩
theorem XO.recD (x : XO G ad M own hp) : ∃ fs : List Value, hp (ad 8) = some (.inr (20, fs)) := by
  obtain ⟨h, n, g, d0, d1, d2, -⟩ := x.done
  exact ⟨_, d2⟩
theorem XO.recR (x : XO G ad M own hp) : ∃ fs : List Value, hp (ad 2) = some (.inr (12, fs)) := by
  obtain ⟨ns, its, r0, r1, r2, r3, r4, -⟩ := x.roads
  obtain ⟨mc, hm⟩ := r1.1
  exact ⟨_, hm⟩
theorem XO.changes {F : HP → Prop} (x : XO G ad M own hp) (hF : ∀ hp1 : HP, XO G ad (pCh M) own hp1 → (∀ b : Nat, b ≠ ad 40 → hp1 b = hp b) → F hp1) : w_X0_changes G hp (ad 40) F := by
  refine x.putI rfl (fun hp1 x1 f1 => x1.putI rfl (fun hp2 x2 f2 => x2.putI rfl (fun hp3 x3 f3 => hF hp3 x3 (fun b hb => ?_))))
  rw [f3 b hb, f2 b hb, f1 b hb]
theorem XO.steps {F : HP → Prop} (x : XO G ad M own hp) (hn : M 2 1 ≤ 24) (hd : M 8 0 ≤ 12) (hF : ∀ (own1 : Nat → Nat) (hp1 : HP), XO G ad (pSteps M) own1 hp1 → F hp1) : w_X0_steps G hp (ad 40) F := by
  refine x.refF (k := 8) rfl ⟨x.isT, x.shot hn (fun hp1 a e1 e2 => ?_)⟩
  have x1 := x.ext e1
  refine ⟨ad 8, rfl, x1.recD, x.pushShot e1 e2 hd (fun own2 hp2 x2 => ?_)⟩
  have h80 : pPush M 8 0 = M 8 0 + 1 := by
    show (if (8 : Nat) = 8 then (if (0 : Nat) = 0 then M 8 0 + 1 else M 8 0) else _) = _
    rw [if_pos rfl, if_pos rfl]
  refine x2.refF (k := 8) rfl ⟨ad 8, rfl, x2.recD, x2.dsize ?_⟩
  have hnn : 0 ≤ M 8 0 := by obtain ⟨h, n, g, d0, d1, d2, d3, d4, d5, d6, -⟩ := x.done; omega
  rw [h80]
  have hw : w32 (M 8 0 + 1) = M 8 0 + 1 := w32_of (by omega) (by omega)
  refine hJn_k (fun hp3 => ∃ own3 : Nat → Nat, XO G ad (if M 8 0 + 1 ≤ 12 then pPush M else pShift (pPush M)) own3 hp3) (fun hp3 ⟨own3, x3⟩ => ⟨x3.isT, x3.changes (fun hp4 x4 _ => hF own3 hp4 x4)⟩) (fun kj hk => ⟨fun z => ?_, fun z => ?_⟩)
  · rw [hw] at z
    exact hk _ ⟨own2, by rw [if_pos z]; exact x2⟩
  · rw [hw] at z
    exact x2.refF (k := 8) rfl ⟨ad 8, rfl, x2.recD, x2.shift (by omega) (fun r hp3 x3 => hk _ ⟨own2, by rw [if_neg z]; exact x3⟩)⟩
end XDN
