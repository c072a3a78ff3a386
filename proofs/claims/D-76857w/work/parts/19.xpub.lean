/-! 19 XPUB: becomes, and the public methods that alter roads and steps, as functions of M -/
set_option maxRecDepth 100000
def pLoad (f : Nat → Int) (M : RM) : Nat → RM
  | 0 => M
  | j + 1 => pAdd (pLoad f M j) (fun k => f (10 + 5 * j + k))
def pBecomes0 (M : RM) (f : Nat → Int) : RM := up2 (setc (up2 M 40 0 (f 0)) 1 (fun j => if (j : Int) < 8 then (if j < 8 then f (2 + j) else 0) else M 1 j)) 2 1 0
def pBecomes (M : RM) (f : Nat → Int) : RM := pCh (pLoad f (pBecomes0 M f) (f 1).toNat)
section XPB
variable {G : GG} {ad : Nat → Nat} {M M1 : RM} {own own1 : Nat → Nat} {hp hp1 : HP}
theorem pLoad_n {f : Nat → Int} (h : M 2 1 = 0) : ∀ j : Nat, pLoad f M j 2 1 = j
  | 0 => h
  | j + 1 => by
    show pLoad f M j 2 1 + 1 = ((j + 1 : Nat) : Int)
    rw [pLoad_n h j]
    rfl
theorem becomes_loop {t b1 : Nat} {f : Nat → Int} {k : HP → Int → Prop} (ht : t ≠ 0 ∧ t ≠ 1) (h0 : M 2 1 = 0) (hk : ∀ (own1 : Nat → Nat) (hp1 : HP) (x : Int), XO G ad (pLoad f M (f 1).toNat) own1 hp1 → (∀ b : Nat, own b = t → hp b ≠ none → own1 b = t ∧ hp1 b = hp b) → k hp1 x) (hs : shotE G own t hp b1 f) : ∀ (d N j : Nat) (own1 : Nat → Nat) (hp1 : HP), (j : Int) + d = f 1 → d < N → XO G ad (pLoad f M j) own1 hp1 → (∀ b : Nat, own b = t → hp b ≠ none → own1 b = t ∧ hp1 b = hp b) → w_X0_becomes_L32 G (ad 40) (some b1) k N hp1 j := by
  intro d
  induction d with
  | zero =>
    intro N j own1 hp1 e1 e2 x e3
    obtain ⟨N1, rfl⟩ : ∃ N1, N = N1 + 1 := ⟨N - 1, by omega⟩
    obtain ⟨s0, sa, ra, g, s1, s2, s3, ⟨s, s4, s8⟩, s5, s6, s7⟩ := hs
    have a3 := (e3 b1 s0 (fun z => by rw [z] at s3; cases s3)).2.trans s3
    refine ⟨b1, rfl, _, f 1, a3, rfl, fun z => ?_, fun z => ?_⟩
    · refine hk own1 hp1 _ ?_ e3
      rw [show (f 1).toNat = j by omega]
      exact x
    · refine absurd ?_ z
      rw [show f 1 = (j : Int) by omega]
      exact Int.le_refl _
  | succ d ih =>
    intro N j own1 hp1 e1 e2 x e3
    obtain ⟨N1, rfl⟩ : ∃ N1, N = N1 + 1 := ⟨N - 1, by omega⟩
    have hs0 := hs
    obtain ⟨s0, sa, ra, g, s1, s2, s3, ⟨s, s4, s8⟩, s5, s6, s7⟩ := hs
    have a3 := (e3 b1 s0 (fun z => by rw [z] at s3; cases s3)).2.trans s3
    have a5 := (e3 ra s2 (fun z => by rw [z] at s5; cases s5)).2.trans s5
    obtain ⟨r, q1, q2, q3⟩ := s7 j (by omega)
    have a6 := (e3 r q2 (fun z => by rw [z] at q3; cases q3)).2.trans q3
    refine ⟨b1, rfl, _, f 1, a3, rfl, fun z => ?_, fun z => ?_⟩
    · rw [w32_of (by omega) (by omega), w32_of (by omega) (by omega)] at z
      omega
    · refine x.refF (k := 2) rfl ⟨b1, rfl, _, some ra, a3, rfl, ra, rfl, 24, g, a5, by omega, ⟨by omega, by omega⟩, ?_⟩
      rw [show ((j : Int).toNat) = j by omega, q1]
      refine ⟨r, rfl, ⟨_, a6⟩, copyRoad a6 (fun q hq => ?_)⟩
      have x1 := x.ext (hp1 := hup hp1 q (roadE (fun k => f (10 + k)) j)) (fun b hb => hup_n (fun z => hb (by rw [z]; exact hq)))
      refine ⟨ad 2, rfl, x1.recR, x1.addRoad (f := fun k => f (10 + 5 * j + k)) ?_ (x.2.2.1 q hq) (fun c hc z => ?_) (fun own2 hp2 x2 f1 f2 => ?_)⟩
      · rw [hup_s]
        refine congrArg some (roadE_ext (fun k hk => ?_))
        show f (10 + (5 * j + k)) = f (10 + 5 * j + (5 * 0 + k))
        congr 1
        omega
      · exact x.al (Or.inr ⟨c, hc, z⟩) hq
      · refine ih N1 (j + 1) own2 hp2 (by omega) (by omega) x2 (fun b b1 b2 => ?_)
        obtain ⟨c1, c2⟩ := e3 b b1 b2
        have c3 : hp1 b ≠ none := by rw [c2]; exact b2
        have c4 : b ≠ q := fun z => c3 (by rw [z]; exact hq)
        have c5 : hup hp1 q (roadE (fun k => f (10 + k)) j) b = hp1 b := hup_n c4
        exact ⟨(f1 b (by rw [c5]; exact c3) c4).trans c1, (f2 b (by rw [c1]; exact ht.2) (by rw [c5]; exact c3)).trans (c5.trans c2)⟩
theorem XO.becomes {t b1 : Nat} {f : Nat → Int} {F : HP → Prop} (x : XO G ad M own hp) (ht : t ≠ 0 ∧ t ≠ 1) (hs : shotE G own t hp b1 f) (hF : ∀ (own1 : Nat → Nat) (hp1 : HP), XO G ad (pBecomes M f) own1 hp1 → (∀ b : Nat, own b = t → hp b ≠ none → own1 b = t ∧ hp1 b = hp b) → F hp1) : w_X0_becomes G hp (ad 40) (some b1) F := by
  have hs0 := hs
  obtain ⟨s0, sa, ra, g, s1, s2, s3, ⟨s, s4, s8⟩, s5, s6, s7⟩ := hs
  have rc : ∀ (b c : Nat), own b = t → dX c ≠ none → b ≠ ad c := fun b c hb hc z => ht.1 (by rw [← hb, z]; exact x.2.1 c hc)
  have d40 : dX 40 ≠ none := fun z => by cases z
  have d1 : dX 1 ≠ none := fun z => by cases z
  refine ⟨b1, rfl, _, f 0, s3, rfl, x.putI rfl (fun hp3 x3 f3 => ?_)⟩
  have a3 := (f3 b1 (rc _ _ s0 d40)).trans s3
  have a4 := (f3 sa (rc _ _ s1 d40)).trans s4
  refine ⟨b1, rfl, _, some sa, a3, rfl, x3.refF (k := 1) rfl ⟨ad 1, rfl, sa, rfl, ?_⟩⟩
  have a4' : hp3 sa = some (.inl (G.2.1 0, (8, .inl (fun j => Int32.ofInt (s j))))) := a4
  refine x3.copyI (c := 1) (n := 8) rfl (by decide) a4' (by decide) (fun hp9 x9 f9 => ?_)
  refine x9.refF (k := 2) rfl ⟨ad 2, rfl, x9.recR, x9.clearRoads (fun hp12 x12 f12 => ?_)⟩
  have eM : up2 (setc (up2 M 40 0 (f 0)) 1 (fun j => if (j : Int) < 8 then s j else up2 M 40 0 (f 0) 1 j)) 2 1 0 = pBecomes0 M f := by
    unfold pBecomes0
    congr 2
    funext j
    by_cases g : (j : Int) < 8
    · rw [if_pos g, if_pos g, if_pos (by omega)]
      exact s8 j (by omega)
    · rw [if_neg g, if_neg g]
      exact up2_c (by decide)
  rw [eM] at x12
  have fr : ∀ b : Nat, own b = t → hp b ≠ none → own b = t ∧ hp12 b = hp b := fun b hb _ => ⟨hb, by rw [f12 b (by rw [hb]; exact ht.2), f9 b (rc _ _ hb d1), f3 b (rc _ _ hb d40)]⟩
  have h0 : pBecomes0 M f 2 1 = 0 := up2_s _ _ _ _
  refine becomes_loop (G := G) (ad := ad) (M := pBecomes0 M f) (own := own) (hp := hp) (t := t) (f := f) ht h0 (fun own4 hp4 y x4 f4 => ?_) hs0 (f 1).toNat 25 0 own hp12 (by omega) (by omega) x12 fr
  refine ⟨x4.isT, x4.changes (fun hp5 x5 f5 => hF own4 hp5 x5 (fun b b1 b2 => ?_))⟩
  obtain ⟨c1, c2⟩ := f4 b b1 b2
  refine ⟨c1, (f5 b (fun z => ht.1 ?_)).trans c2⟩
  rw [← c1, z]
  exact x4.2.1 40 d40
end XPB
