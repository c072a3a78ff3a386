/-! 20 XPUBM: the public methods that alter roads and steps: contracts in the x-world -/
set_option maxRecDepth 100000
abbrev pTown (M : RM) (a : Int) : Prop := 0 ≤ w32 a ∧ w32 a ≤ w32 (M 40 0 - 1)
abbrev pAre (M : RM) (a b : Int) : Prop := pTown M a ∧ pTown M b ∧ w32 a ≠ w32 b
abbrev pRoad (M : RM) (a : Int) : Prop := 0 ≤ w32 a ∧ w32 a ≤ w32 (M 2 1 - 1)
abbrev pMay (lo mo co : Int) : Prop := (0 ≤ w32 lo ∧ w32 lo ≤ w32 mo) ∧ (0 ≤ w32 mo ∧ w32 mo ≤ 99) ∧ -100000000000000000 ≤ w64 co ∧ w64 co ≤ 100000000000000000
theorem w3264 (x : Int) : w64 (w32 x) = w32 x := by
  have h1 : -2147483648 ≤ w32 x := by unfold w32; rw [Int.bmod_def]; split <;> omega
  have h2 : w32 x < 2147483648 := by unfold w32; rw [Int.bmod_def]; split <;> omega
  exact w64_of (by omega) (by omega)
section XPM
variable {G : GG} {ad : Nat → Nat} {M M1 : RM} {own own1 : Nat → Nat} {hp hp1 : HP}
theorem h_isIn {a lo hi : Int} {F : Int → HP → Prop} (h1 : (w64 lo ≤ w64 a ∧ w64 a ≤ w64 hi) → F 1 hp) (h2 : ¬ (w64 lo ≤ w64 a ∧ w64 a ≤ w64 hi) → F 0 hp) : w_X0_isIn G hp a lo hi F :=
  ⟨fun z => h2 (by omega), fun z => ⟨fun y => h2 (by omega), fun y => h1 (by omega)⟩⟩
theorem XO.isTown {a : Int} {F : Int → HP → Prop} (x : XO G ad M own hp) (h1 : pTown M a → F 1 hp) (h2 : ¬ pTown M a → F 0 hp) : w_X0_isTown G hp (ad 40) a F := by
  refine x.intF (k := 0) rfl (h_isIn (fun z => ⟨Or.inr rfl, h1 ?_⟩) (fun z => ⟨Or.inl rfl, h2 ?_⟩))
  · rw [w3264, w3264] at z; exact z
  · rw [w3264, w3264] at z; exact z
theorem XO.areTowns {a b : Int} {F : Int → HP → Prop} (x : XO G ad M own hp) (h1 : pAre M a b → F 1 hp) (h2 : ¬ pAre M a b → F 0 hp) : w_X0_areTowns G hp (ad 40) a b F := by
  refine ⟨x.isT, x.isTown (fun z => ⟨fun y => absurd y (by decide), fun _ => ⟨x.isT, x.isTown (fun z2 => ⟨fun y => absurd y (by decide), fun _ => ⟨fun y => h2 (fun q => q.2.2 y), fun y => h1 ⟨z, z2, y⟩⟩⟩) (fun z2 => ⟨fun _ => h2 (fun q => z2 q.2.1), fun y => absurd rfl y⟩)⟩⟩) (fun z => ⟨fun _ => h2 (fun q => z q.1), fun y => absurd rfl y⟩)⟩
theorem XO.isRoad {a : Int} {F : Int → HP → Prop} (x : XO G ad M own hp) (h1 : pRoad M a → F 1 hp) (h2 : ¬ pRoad M a → F 0 hp) : w_X0_isRoad G hp (ad 40) a F := by
  refine x.refF (k := 2) rfl ⟨ad 2, rfl, x.recR, x.size (h_isIn (fun z => ⟨Or.inr rfl, h1 ?_⟩) (fun z => ⟨Or.inl rfl, h2 ?_⟩))⟩
  · rw [w3264, w3264] at z; exact z
  · rw [w3264, w3264] at z; exact z
theorem h_may {lo mo co : Int} {F : Int → HP → Prop} (h1 : pMay lo mo co → F 1 hp) (h2 : ¬ pMay lo mo co → F 0 hp) : w_X7_may G hp lo mo co F := by
  refine h_isIn (fun z => ⟨fun y => absurd y (by decide), fun _ => h_isIn (fun z2 => ⟨fun y => absurd y (by decide), fun _ => h_isIn (fun z3 => ⟨fun y => absurd y (by decide), fun _ => h1 ?_⟩) (fun z3 => ⟨fun _ => h2 (fun q => z3 ?_), fun y => absurd rfl y⟩)⟩) (fun z2 => ⟨fun _ => h2 (fun q => z2 ?_), fun y => absurd rfl y⟩)⟩) (fun z => ⟨fun _ => h2 (fun q => z ?_), fun y => absurd rfl y⟩)
  · rw [w3264, w3264] at z
    rw [w3264] at z2
    exact ⟨z, z2, z3⟩
  · exact q.2.2
  · rw [w3264]; exact q.2.1
  · rw [w3264, w3264]; exact q.1
end XPM
theorem MX.ofO {l : Launch} {y : MethodName} {ws : List Cond} {d mc ms : Nat} {G : GG} {ad : Nat → Nat} {As : List Value} {M M1 : RM} {rv : Option Value} {Zh : Option Value → HP → Prop} (hz : ∀ (rv1 : Option Value) (hp1 : HP), Zh rv1 hp1 → rv1 = rv ∧ ∃ own1 : Nat → Nat, XO G ad M1 own1 hp1) (h : ∀ (own : Nat → Nat) (hp : HP), XO G ad M own hp → MH l y ws d mc ms G As hp Zh) : MX l y ws d mc ms G ad As M (Zd rv M1) := by
  refine MX.ofH (fun hp hP hY => ?_)
  obtain ⟨own, x⟩ := XO.of hP hY
  refine ⟨Zh, h own hp x, fun rv1 hp1 hZ => ?_⟩
  obtain ⟨e, own1, x1⟩ := hz rv1 hp1 hZ
  exact ⟨M1, ⟨e, rfl⟩, x1.1, x1.dy⟩
theorem zI {G : GG} {ad : Nat → Nat} {M1 : RM} {r : Int} : ∀ (rv1 : Option Value) (hp1 : HP), pI (fun v hp1 => v = r ∧ ∃ own1 : Nat → Nat, XO G ad M1 own1 hp1) rv1 hp1 → rv1 = some (vI r) ∧ ∃ own1 : Nat → Nat, XO G ad M1 own1 hp1 := by
  rintro rv1 hp1 ⟨x, rfl, rfl, h⟩
  exact ⟨rfl, h⟩
theorem zJ {G : GG} {ad : Nat → Nat} {M1 : RM} {r : Int} : ∀ (rv1 : Option Value) (hp1 : HP), pJ (fun v hp1 => v = r ∧ ∃ own1 : Nat → Nat, XO G ad M1 own1 hp1) rv1 hp1 → rv1 = some (vL r) ∧ ∃ own1 : Nat → Nat, XO G ad M1 own1 hp1 := by
  rintro rv1 hp1 ⟨x, rfl, rfl, h⟩
  exact ⟨rfl, h⟩
theorem zV {G : GG} {ad : Nat → Nat} {M1 : RM} : ∀ (rv1 : Option Value) (hp1 : HP), pV (fun hp1 => ∃ own1 : Nat → Nat, XO G ad M1 own1 hp1) rv1 hp1 → rv1 = none ∧ ∃ own1 : Nat → Nat, XO G ad M1 own1 hp1 := by
  rintro rv1 hp1 ⟨rfl, h⟩
  exact ⟨rfl, h⟩
def f_X0_steps (M : RM) : Option RM := if M 2 1 ≤ 24 ∧ M 8 0 ≤ 12 then some (pSteps M) else none
theorem mx_X0_steps (l : Launch) (G : GG) (ad : Nat → Nat) (M : RM) {out : RM} (hE : f_X0_steps M = some out) : MX l yX0_steps (ws_ yX0_steps cX0_steps 1 none) 6 29 166 G ad [.ref (ad 40)] M (Zd none out) := by
  unfold f_X0_steps at hE
  by_cases g : M 2 1 ≤ 24 ∧ M 8 0 ≤ 12
  · rw [if_pos g] at hE
    cases hE
    exact MX.ofO zV (fun own hp x => mh_X0_steps l G hp (ad 40) _ (x.steps g.1 g.2 (fun own1 hp1 x1 => ⟨own1, x1⟩)))
  · rw [if_neg g] at hE; cases hE
def pBack (M : RM) : RM := pBecomes (pPop M) (fun k => M 503 (130 * (M 8 0 - 1).toNat + k))
def f_X0_back (M : RM) : Option (Int × RM) := if M 8 0 = 0 then some (-3, M) else some (pBack M 8 0, pBack M)
theorem mx_X0_back (l : Launch) (G : GG) (ad : Nat → Nat) (M : RM) {out : Int × RM} (hE : f_X0_back M = some out) : MX l yX0_back (ws_ yX0_back cX0_back 1 (some .int)) 5 50 200 G ad [.ref (ad 40)] M (Zd (some (vI out.1)) out.2) := by
  unfold f_X0_back at hE
  refine MX.ofO zI (fun own hp x => mh_X0_back l G hp (ad 40) _ (x.refF (k := 8) rfl ⟨ad 8, rfl, x.recD, x.dempty ⟨fun z => ?_, fun z => ?_⟩⟩))
  · by_cases g : M 8 0 = 0
    · rw [if_pos g] at z; exact absurd z (by decide)
    · rw [if_neg g] at hE
      cases hE
      have hnn : 0 ≤ M 8 0 := by obtain ⟨h, n, g, d0, d1, d2, d3, d4, d5, d6, -⟩ := x.done; omega
      refine x.refF (k := 8) rfl ⟨ad 8, rfl, x.recD, x.pop (by omega) (fun r hp1 x1 hs => ⟨fun b hb => ?_, x1.isT, x1.becomes (t := 4) (by decide) hs (fun own2 hp2 x2 _ => ?_)⟩)⟩
      · cases hb
        obtain ⟨-, sa, ra, g, -, -, q, -⟩ := hs
        exact ⟨_, q⟩
      · exact x2.refF (k := 8) rfl ⟨ad 8, rfl, x2.recD, x2.dsize ⟨rfl, own2, x2⟩⟩
  · by_cases g : M 8 0 = 0
    · rw [if_pos g] at hE
      cases hE
      exact ⟨rfl, own, x⟩
    · rw [if_neg g] at z; exact absurd rfl z
def f_X0_road (M : RM) (a b lo mo co : Int) : Option (Int × RM) := if ¬ pAre M a b then some (-1, M) else if ¬ pMay lo mo co then some (-2, M) else if w32 (M 2 1) = 24 then some (-4, M) else ob (f_X0_steps M) fun M1 => some (pAdd M1 (road5 a b lo mo co) 2 1 - 1, pAdd M1 (road5 a b lo mo co))
theorem mx_X0_road (l : Launch) (G : GG) (ad : Nat → Nat) (M : RM) (a b lo mo co : Int) {out : Int × RM} (hE : f_X0_road M a b lo mo co = some out) : MX l yX0_road (ws_ yX0_road cX0_road 7 (some .int)) 7 31 174 G ad [.ref (ad 40), vI a, vI b, vI lo, vI mo, vL co] M (Zd (some (vI out.1)) out.2) := by
  unfold f_X0_road at hE
  refine MX.ofO zI (fun own hp x => mh_X0_road l G hp (ad 40) a b lo mo co _ ⟨x.isT, x.areTowns (fun g => ⟨fun _ => h_may (fun g2 => ⟨fun _ => ?_, fun z => absurd (by decide) z⟩) (fun g2 => ⟨fun z => absurd rfl z, fun _ => ?_⟩), fun z => absurd (by decide) z⟩) (fun g => ⟨fun z => absurd rfl z, fun _ => ?_⟩)⟩)
  · rw [if_neg (fun z => z g), if_neg (fun z => z g2)] at hE
    refine x.refF (k := 2) rfl ⟨ad 2, rfl, x.recR, x.size ⟨fun z => ?_, fun z => ?_⟩⟩
    · rw [if_neg z] at hE
      obtain ⟨M2, h2, hE2⟩ := ob_some hE
      cases hE2
      unfold f_X0_steps at h2
      by_cases g3 : M 2 1 ≤ 24 ∧ M 8 0 ≤ 12
      · rw [if_pos g3] at h2
        cases h2
        refine ⟨x.isT, x.steps g3.1 g3.2 (fun own1 hp1 x1 => ?_)⟩
        refine x1.refF (k := 2) rfl (newRoad (fun q hq => ?_))
        have x2 := x1.ext (hp1 := hup hp1 q (roadE (road5 a b lo mo co) 0)) (fun b hb => hup_n (fun z => hb (by rw [z]; exact hq)))
        refine ⟨ad 2, rfl, x2.recR, x2.addRoad hup_s (x1.2.2.1 q hq) (fun c hc z => x1.al (Or.inr ⟨c, hc, z⟩) hq) (fun own3 hp3 x3 _ _ => ?_)⟩
        exact x3.refF (k := 2) rfl ⟨ad 2, rfl, x3.recR, x3.size ⟨rfl, own3, x3⟩⟩
      · rw [if_neg g3] at h2; cases h2
    · have e : w32 (M 2 1) = 24 := Classical.byContradiction z
      rw [if_pos e] at hE
      cases hE
      exact ⟨rfl, own, x⟩
  · rw [if_neg (fun z => z g), if_pos g2] at hE
    cases hE
    exact ⟨rfl, own, x⟩
  · rw [if_pos g] at hE
    cases hE
    exact ⟨rfl, own, x⟩
def f_X0_alter (M : RM) (r lo mo co : Int) : Option (Int × RM) := if ¬ pRoad M r then some (-1, M) else if ¬ pMay lo mo co then some (-2, M) else ob (f_X0_steps M) fun M1 => if r = (r.toNat : Int) ∧ r < M1 2 1 then some (1, pBound M1 r.toNat lo mo co) else none
theorem pSteps_n (M : RM) : pSteps M 2 1 = M 2 1 := by
  unfold pSteps pCh
  rw [up2_c (by decide), up2_c (by decide), up2_c (by decide)]
  by_cases g : M 8 0 + 1 ≤ 12
  · rw [if_pos g]; rfl
  · rw [if_neg g]; rfl
theorem mx_X0_alter (l : Launch) (G : GG) (ad : Nat → Nat) (M : RM) (r lo mo co : Int) {out : Int × RM} (hE : f_X0_alter M r lo mo co = some out) : MX l yX0_alter (ws_ yX0_alter cX0_alter 6 (some .int)) 7 29 166 G ad [.ref (ad 40), vI r, vI lo, vI mo, vL co] M (Zd (some (vI out.1)) out.2) := by
  unfold f_X0_alter at hE
  refine MX.ofO zI (fun own hp x => mh_X0_alter l G hp (ad 40) r lo mo co _ ⟨x.isT, x.isRoad (fun g => ⟨fun _ => h_may (fun g2 => ⟨fun _ => ?_, fun z => absurd (by decide) z⟩) (fun g2 => ⟨fun z => absurd rfl z, fun _ => ?_⟩), fun z => absurd (by decide) z⟩) (fun g => ⟨fun z => absurd rfl z, fun _ => ?_⟩)⟩)
  · rw [if_neg (fun z => z g), if_neg (fun z => z g2)] at hE
    obtain ⟨M2, h2, hE2⟩ := ob_some hE
    unfold f_X0_steps at h2
    by_cases g3 : M 2 1 ≤ 24 ∧ M 8 0 ≤ 12
    · rw [if_pos g3] at h2
      cases h2
      by_cases g4 : r = (r.toNat : Int) ∧ r < pSteps M 2 1
      · rw [if_pos g4] at hE2
        cases hE2
        refine ⟨x.isT, x.steps g3.1 g3.2 (fun own1 hp1 x1 => ?_)⟩
        refine x1.refF (k := 2) rfl ⟨ad 2, rfl, x1.recR, ?_⟩
        have hb : pSteps M 2 1 ≤ 1000 := by rw [pSteps_n]; omega
        have := x1.alterRoad (i := r.toNat) (lo := lo) (mo := mo) (co := co) (F := fun _ hp11 => (1 : Int) = 1 ∧ ∃ own1 : Nat → Nat, XO G ad (pBound (pSteps M) r.toNat lo mo co) own1 hp11) (by rw [← g4.1]; exact g4.2) hb (fun a hp2 x2 _ => ⟨rfl, own1, x2⟩)
        rw [← g4.1] at this
        exact this
      · rw [if_neg g4] at hE2; cases hE2
    · rw [if_neg g3] at h2; cases h2
  · rw [if_neg (fun z => z g), if_pos g2] at hE
    cases hE
    exact ⟨rfl, own, x⟩
  · rw [if_pos g] at hE
    cases hE
    exact ⟨rfl, own, x⟩
def pFig (M : RM) (i : Nat) (w : Int) : Int := if w = 0 then w32 (M 500 (5 * i)) else if w = 1 then w32 (M 500 (5 * i + 1)) else if w = 2 then w32 (M 500 (5 * i + 2)) else if w = 3 then w32 (M 500 (5 * i + 3)) else M 500 (5 * i + 4)
def f_X0_of (M : RM) (r w : Int) : Option (Int × RM) := if ¬ pRoad M r then some (-9223372036854775808, M) else if ¬ (0 ≤ w32 w ∧ w32 w ≤ 4) then some (-9223372036854775808, M) else if (r = (r.toNat : Int) ∧ r < M 2 1) ∧ M 2 1 ≤ 24 then some (pFig M r.toNat (w32 w), M) else none
theorem mx_X0_of (l : Launch) (G : GG) (ad : Nat → Nat) (M : RM) (r w : Int) {out : Int × RM} (hE : f_X0_of M r w = some out) : MX l yX0_of (ws_ yX0_of cX0_of 3 (some .long)) 3 0 0 G ad [.ref (ad 40), vI r, vI w] M (Zd (some (vL out.1)) out.2) := by
  unfold f_X0_of at hE
  refine MX.ofO zJ (fun own hp x => mh_X0_of l G hp (ad 40) r w _ ⟨x.isT, x.isRoad (fun g => ⟨fun z => absurd z (by decide), fun _ => h_isIn (fun g2 => ⟨fun z => absurd z (by decide), fun _ => ?_⟩) (fun g2 => ⟨fun _ => ?_, fun z => absurd rfl z⟩)⟩) (fun g => ⟨fun _ => ?_, fun z => absurd rfl z⟩)⟩)
  · rw [w3264] at g2
    rw [if_neg (fun z => z g), if_neg (fun z => z g2)] at hE
    by_cases g4 : (r = (r.toNat : Int) ∧ r < M 2 1) ∧ M 2 1 ≤ 24
    · rw [if_pos g4] at hE
      cases hE
      refine x.refF (k := 2) rfl ⟨ad 2, rfl, x.recR, ?_⟩
      have := x.get (i := r.toNat) (F := fun r8 hp7 => hCast hp7 7 r8 (hNn r8 fun b9 => hIs hp7 b9 7 (w_X7_figure G hp7 b9 w (fun v11 hp10 => v11 = pFig M r.toNat (w32 w) ∧ ∃ own1 : Nat → Nat, XO G ad M own1 hp10)))) (by rw [← g4.1.1]; exact g4.1.2) (by omega) (fun a o1 o2 => ⟨fun b hb => (by cases hb; exact ⟨_, o2⟩), a, rfl, ⟨_, o2⟩, ⟨fun z => ⟨_, M 500 (5 * r.toNat), o2, rfl, ?_, own, x⟩, fun z => ⟨fun z1 => ⟨_, M 500 (5 * r.toNat + 1), o2, rfl, ?_, own, x⟩, fun z1 => ⟨fun z2 => ⟨_, M 500 (5 * r.toNat + 2), o2, rfl, ?_, own, x⟩, fun z2 => ⟨fun z3 => ⟨_, M 500 (5 * r.toNat + 3), o2, rfl, ?_, own, x⟩, fun z3 => ⟨_, M 500 (5 * r.toNat + 4), o2, rfl, ?_, own, x⟩⟩⟩⟩⟩⟩)
      · rw [← g4.1.1] at this
        exact this
      · unfold pFig; rw [if_pos z]
      · unfold pFig; rw [if_neg z, if_pos z1]
      · unfold pFig; rw [if_neg z, if_neg z1, if_pos z2]
      · unfold pFig; rw [if_neg z, if_neg z1, if_neg z2, if_pos z3]
      · unfold pFig; rw [if_neg z, if_neg z1, if_neg z2, if_neg z3]
    · rw [if_neg g4] at hE; cases hE
  · rw [w3264] at g2
    rw [if_neg (fun z => z g), if_pos (show ¬ (0 ≤ w32 w ∧ w32 w ≤ 4) from g2)] at hE
    cases hE
    exact ⟨rfl, own, x⟩
  · rw [if_pos g] at hE
    cases hE
    exact ⟨rfl, own, x⟩
theorem XO.stI {G : GG} {ad : Nat → Nat} {M : RM} {own : Nat → Nat} {hp : HP} {c n : Nat} {i v : Int} {F : HP → Prop} (x : XO G ad M own hp) (hd : dX c = some (.inl (0, n))) (hc : c ≠ 40) (hi : (0 ≤ i ∧ i < n) ∧ n ≤ 1000) (hF : ∀ hp1 : HP, XO G ad (up2 M c i.toNat v) own hp1 → (∀ b : Nat, b ≠ ad c → hp1 b = hp b) → F hp1) : hsI G hp (ad c) 0 i v F := by
  refine ⟨n, fun j => Int32.ofInt (M c j), x.1.1 c _ hd, by omega, hi.1, hF _ ?_ (fun b hb => hup_n hb)⟩
  rw [up2_setc]
  refine x.cell hd (fun e => absurd e hc) ?_
  show (Sum.inl (G.2.1 0, n, _) : va_E) = Sum.inl (G.2.1 0, n, Sum.inl _)
  congr 4
  funext j
  by_cases g : j = i.toNat
  · subst g; simp [upd, up2_s]
  · simp [upd, g, up2_j g]
def pZ (M : RM) : Nat → RM
  | 0 => M
  | j + 1 => up2 (pZ M j) 1 j 0
theorem towns_loop {G : GG} {ad : Nat → Nat} {M : RM} {own : Nat → Nat} {b2 : Int} {k : HP → Int → Prop} (hk : ∀ (hp1 : HP) (y : Int), XO G ad (pZ M 8) own hp1 → k hp1 y) : ∀ (d j : Nat) (hp1 : HP), j + d = 8 → XO G ad (pZ M j) own hp1 → w_X0_towns_L40 G (ad 40) b2 k (d + 1) hp1 j := by
  intro d
  induction d with
  | zero =>
    intro j hp1 e x
    have : j = 8 := by omega
    subst this
    exact ⟨fun _ => hk _ _ x, fun z => absurd (by decide) z⟩
  | succ d ih =>
    intro j hp1 e x
    refine ⟨fun z => ?_, fun z => ?_⟩
    · rw [w32_of (by omega) (by omega)] at z
      omega
    · refine x.refF (k := 1) rfl ⟨ad 1, rfl, x.stI (c := 1) (n := 8) rfl (by decide) ⟨⟨by omega, by omega⟩, by omega⟩ (fun hp2 x2 _ => ?_)⟩
      exact ih (j + 1) hp2 (by omega) x2
def f_X0_towns (M : RM) (a : Int) : Option (Int × RM) := if ¬ (2 ≤ w32 a ∧ w32 a ≤ 8) then some (-2, M) else ob (f_X0_steps M) fun M1 => some (M1 40 0, pZ (up2 (up2 M1 40 0 a) 2 1 0) 8)
theorem mx_X0_towns (l : Launch) (G : GG) (ad : Nat → Nat) (M : RM) (a : Int) {out : Int × RM} (hE : f_X0_towns M a = some out) : MX l yX0_towns (ws_ yX0_towns cX0_towns 4 (some .int)) 7 29 166 G ad [.ref (ad 40), vI a] M (Zd (some (vI out.1)) out.2) := by
  unfold f_X0_towns at hE
  refine MX.ofO zI (fun own hp x => mh_X0_towns l G hp (ad 40) a _ (h_isIn (fun g => ⟨fun _ => ?_, fun z => absurd (by decide) z⟩) (fun g => ⟨fun z => absurd rfl z, fun _ => ?_⟩)))
  · rw [w3264] at g
    rw [if_neg (fun z => z g)] at hE
    obtain ⟨M2, h2, hE2⟩ := ob_some hE
    cases hE2
    unfold f_X0_steps at h2
    by_cases g3 : M 2 1 ≤ 24 ∧ M 8 0 ≤ 12
    · rw [if_pos g3] at h2
      cases h2
      refine ⟨x.isT, x.steps g3.1 g3.2 (fun own1 hp1 x1 => x1.intF (k := 0) rfl (x1.putI rfl (fun hp2 x2 _ => x2.refF (k := 2) rfl ⟨ad 2, rfl, x2.recR, x2.clearRoads (fun hp3 x3 _ => ⟨9, ?_⟩)⟩)))⟩
      exact towns_loop (fun hp4 y x4 => ⟨rfl, own1, x4⟩) 8 0 hp3 rfl x3
    · rw [if_neg g3] at h2; cases h2
  · rw [w3264] at g
    rw [if_pos (show ¬ (2 ≤ w32 a ∧ w32 a ≤ 8) from g)] at hE
    cases hE
    exact ⟨rfl, own, x⟩
