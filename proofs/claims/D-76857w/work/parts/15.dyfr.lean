/-! 15 DYFR: frames of what lies beside the record; the state XO seen from the heap -/
set_option maxRecDepth 100000
theorem rst_t {own : Nat → Nat} {hp : HP} {a t : Nat} (h : own a = t + 1) : rst own hp a = hp a := by unfold rst; rw [if_neg (by omega)]
section DF
variable {G : GG} {ad : Nat → Nat} {V V1 : RM} {own own1 : Nat → Nat} {hp hp1 : HP}
/-- what is owned by t is as it was -/
def kp (t : Nat) (own own1 : Nat → Nat) (hp hp1 : HP) : Prop := ∀ a : Nat, own a = t → own1 a = t ∧ hp1 a = hp a
theorem kp.e {t : Nat} (k : kp (t + 1) own own1 hp hp1) {a : Nat} (h : own a = t + 1) : rst own1 hp1 a = rst own hp a := by
  obtain ⟨h1, h2⟩ := k a h
  rw [rst_t h1, rst_t h, h2]
theorem dyRoads.fr (h : dyRoads ad V own (rst own hp)) (k : kp 1 own own1 hp hp1) (v1 : V1 2 1 = V 2 1) (v2 : ∀ j : Nat, V1 500 j = V 500 j) : dyRoads ad V1 own1 (rst own1 hp1) := by
  obtain ⟨h0, ns, its, h1, h2, h3, h4, h5⟩ := h
  refine ⟨(k _ h0).1, ns, its, h1.fr (k.e h0) (fun n hn => k.e (h2 n hn)), fun a ha => (k _ (h2 a ha)).1, h3, v1.trans h4, fun i a hi => ?_⟩
  obtain ⟨g1, g2⟩ := h5 i a hi
  refine ⟨(k _ g1).1, (k.e g1).trans (g2.trans ?_)⟩
  unfold roadE
  simp only [v2]
theorem dyRead.fr (h : dyRead ad own (rst own hp)) (k : kp 2 own own1 hp hp1) : dyRead ad own1 (rst own1 hp1) := by
  obtain ⟨h0, ns, its, h1, h2⟩ := h
  exact ⟨(k _ h0).1, ns, its, h1.fr (k.e h0) (fun n hn => k.e (h2 n hn)), fun a ha => (k _ (h2 a ha)).1⟩
theorem dyWays.fr (h : dyWays G ad V own (rst own hp)) (k : kp 3 own own1 hp hp1) (v1 : V1 25 1 = V 25 1) (v2 : ∀ j : Nat, V1 502 j = V 502 j) : dyWays G ad V1 own1 (rst own1 hp1) := by
  obtain ⟨h0, ns, its, h1, h2, h4, h5⟩ := h
  refine ⟨(k _ h0).1, ns, its, h1.fr (k.e h0) (fun n hn => k.e (h2 n hn)), fun a ha => (k _ (h2 a ha)).1, v1.trans h4, fun i a hi => ?_⟩
  obtain ⟨g1, ra, g2, g3, s, g4, g5⟩ := h5 i a hi
  refine ⟨(k _ g1).1, ra, (k _ g2).1, (k.e g1).trans (g3.trans ?_), s, (k.e g2).trans g4, fun j hj => (g5 j hj).trans (v2 _).symm⟩
  simp only [v2]
theorem shotE.fr {t : Nat} {a : Nat} {f f1 : Nat → Int} (h : shotE G own (t + 1) (rst own hp) a f) (k : kp (t + 1) own own1 hp hp1) (hf : ∀ j : Nat, f1 j = f j) : shotE G own1 (t + 1) (rst own1 hp1) a f1 := by
  have : f1 = f := funext hf
  subst this
  obtain ⟨h0, sa, ra, g, h1, h2, h3, h4, h5, h6, h7⟩ := h
  obtain ⟨s, h4, h8⟩ := h4
  refine ⟨(k _ h0).1, sa, ra, g, (k _ h1).1, (k _ h2).1, (k.e h0).trans h3, ⟨s, (k.e h1).trans h4, h8⟩, (k.e h2).trans h5, h6, fun i hi => ?_⟩
  obtain ⟨r, g1, g2, g3⟩ := h7 i hi
  exact ⟨r, g1, (k _ g2).1, (k.e g2).trans g3⟩
theorem dyDone.fr (h : dyDone G ad V own (rst own hp)) (k : kp 4 own own1 hp hp1) (v1 : V1 8 0 = V 8 0) (v2 : ∀ j : Nat, V1 503 j = V 503 j) : dyDone G ad V1 own1 (rst own1 hp1) := by
  obtain ⟨h0, h1, b, n, g, g1, g2, g3, g4, g5, g6⟩ := h
  refine ⟨(k _ h0).1, (k _ h1).1, b, n, g, (k.e h0).trans g1, (k.e h1).trans g2, g3, g4, v1.trans g5, fun i hi => ?_⟩
  obtain ⟨a, q1, q2⟩ := g6 i hi
  exact ⟨a, q1, q2.fr k (fun j => v2 _)⟩
theorem dyImage.fr (h : dyImage G V own (rst own hp)) (k : kp 5 own own1 hp hp1) (v1 : V1 40 31 = V 40 31) (v2 : ∀ j : Nat, V1 504 j = V 504 j) : dyImage G V1 own1 (rst own1 hp1) := by
  rcases h with h | ⟨a, h1, h2⟩
  · exact Or.inl (v1.trans h)
  · exact Or.inr ⟨a, v1.trans h1, h2.fr k v2⟩
theorem dyRows.fr (h : dyRows G ad V own (rst own hp)) (k : kp 6 own own1 hp hp1) (k2 : ∀ r : Nat, r < 4 → kp (60 + r) own own1 hp hp1) (v1 : ∀ j : Nat, V1 509 j = V 509 j) (v2 : ∀ r j : Nat, r < 4 → V1 (505 + r) j = V (505 + r) j) : dyRows G ad V1 own1 (rst own1 hp1) := by
  obtain ⟨h0, g, h1, h2⟩ := h
  refine ⟨(k _ h0).1, g, (k.e h0).trans h1, fun r hr => ?_⟩
  rcases h2 r hr with ⟨q1, q2⟩ | ⟨a, n, q1, q2, q3, q4, q5⟩
  · exact Or.inl ⟨q1, (v1 r).trans q2⟩
  · refine Or.inr ⟨a, n, q1, (k2 r hr _ q2).1, (v1 r).trans q3, q4, ?_⟩
    have kk : kp (59 + r + 1) own own1 hp hp1 := by rw [show 59 + r + 1 = 60 + r by omega]; exact k2 r hr
    rw [kk.e (by omega), q5]
    simp only [v2 r _ hr]
end DF
/-- the x-world's state at a heap, with who owns what -/
def XO (G : GG) (ad : Nat → Nat) (M : RM) (own : Nat → Nat) (hp : HP) : Prop := RP G dX ad M hp ∧ (∀ c : Nat, dX c ≠ none → own (ad c) = 0) ∧ (∀ a : Nat, hp a = none → own a = 0) ∧ DYo G ad (vw M) own (rst own hp)
section XOS
variable {G : GG} {ad : Nat → Nat} {M : RM} {own : Nat → Nat} {hp : HP}
theorem XO.dy (h : XO G ad M own hp) : DY G ad (vw M) hp := ⟨own, h.2.1, h.2.2.2⟩
theorem XO.of (h : RP G dX ad M hp) (h2 : DY G ad (vw M) hp) : ∃ own : Nat → Nat, XO G ad M own hp := by
  obtain ⟨own, g1, g2⟩ := h2
  have hr : rst (fun a => if hp a = none then 0 else own a) hp = rst own hp := by
    funext a
    unfold rst
    by_cases g : hp a = none
    · rw [if_pos (if_pos g), g]
      by_cases g2 : own a = 0
      · rw [if_pos g2]
      · rw [if_neg g2]
    · simp only [if_neg g]
  have key : ∀ a t : Nat, own a = t → rst own hp a ≠ none → (if hp a = none then 0 else own a) = t := fun a t h hn => by
    rw [if_neg (fun z => hn ?_)]
    · exact h
    · unfold rst
      by_cases g2 : own a = 0
      · rw [if_pos g2]
      · rw [if_neg g2, z]
  have sn : ∀ {a : Nat} {e : va_E}, rst own hp a = some e → rst own hp a ≠ none := fun h z => by rw [h] at z; cases z
  refine ⟨fun a => if hp a = none then 0 else own a, h, fun c hc => ?_, fun a ha => if_pos ha, ?_⟩
  · show (if hp (ad c) = none then 0 else own (ad c)) = 0
    rw [g1 c hc]
    exact ite_self _
  · rw [hr]
    obtain ⟨⟨a0, ns, its, a1, a2, a3, a4, a5⟩, ⟨b0, ns1, its1, b1, b2⟩, ⟨c0, ns2, its2, c1, c2, c3, c4⟩, ⟨d0, d1, e, n, g, d2, d3, d4, d5, d6, d7⟩, hi, ⟨f0, gg, f1, f2⟩⟩ := g2
    have sh : ∀ {t a : Nat} {f : Nat → Int}, shotE G own t (rst own hp) a f → shotE G (fun a => if hp a = none then 0 else own a) t (rst own hp) a f := fun {t a f} ⟨s0, sa, ra, g, s1, s2, s3, ⟨s, s4, s8⟩, s5, s6, s7⟩ => ⟨key _ _ s0 (sn s3), sa, ra, g, key _ _ s1 (sn s4), key _ _ s2 (sn s5), s3, ⟨s, s4, s8⟩, s5, s6, fun i hi => by
      obtain ⟨r, q1, q2, q3⟩ := s7 i hi
      exact ⟨r, q1, key _ _ q2 (sn q3), q3⟩⟩
    refine ⟨⟨key _ _ a0 (by obtain ⟨mc, z⟩ := a1.1; exact sn z), ns, its, a1, fun a ha => key _ _ (a2 a ha) (a1.nn ha), a3, a4, fun i a hi => ⟨key _ _ (a5 i a hi).1 (sn (a5 i a hi).2), (a5 i a hi).2⟩⟩, ⟨key _ _ b0 (by obtain ⟨mc, z⟩ := b1.1; exact sn z), ns1, its1, b1, fun a ha => key _ _ (b2 a ha) (b1.nn ha)⟩, ⟨key _ _ c0 (by obtain ⟨mc, z⟩ := c1.1; exact sn z), ns2, its2, c1, fun a ha => key _ _ (c2 a ha) (c1.nn ha), c3, fun i a hi => ?_⟩, ⟨key _ _ d0 (sn d2), key _ _ d1 (sn d3), e, n, g, d2, d3, d4, d5, d6, fun i hi => ?_⟩, ?_, ⟨key _ _ f0 (sn f1), gg, f1, fun r hr => ?_⟩⟩
    · obtain ⟨q1, ra, q2, q3, s, q4, q5⟩ := c4 i a hi
      exact ⟨key _ _ q1 (sn q3), ra, key _ _ q2 (sn q4), q3, s, q4, q5⟩
    · obtain ⟨a, q1, q2⟩ := d7 i hi
      exact ⟨a, q1, sh q2⟩
    · rcases hi with hi | ⟨a, h1, h2⟩
      · exact Or.inl hi
      · exact Or.inr ⟨a, h1, sh h2⟩
    · rcases f2 r hr with q | ⟨a, n, q1, q2, q3, q4, q5⟩
      · exact Or.inl q
      · exact Or.inr ⟨a, n, q1, key _ _ q2 (sn q5), q3, q4, q5⟩
theorem XO.this (h : XO G ad M own hp) : hp (ad 40) = some (rwc G ad (M 40) (.inr (0, frF))) := h.1.1 40 _ rfl
end XOS
