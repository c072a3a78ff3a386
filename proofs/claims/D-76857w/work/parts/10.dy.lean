/-! 10 DY: FreightRoads' record dX, what lies beside it (lists, shots, rows ..: DY), the x-world's state XR -/
set_option maxRecDepth 100000
/-- FreightRoads' fields: 0 int, 1 long, 2 a fixed reference, 4 a raw one (paper, image) -/
def frF : List (Nat × Nat) := [(0, 0), (2, 1), (2, 2), (2, 120), (2, 220), (0, 0), (0, 0), (0, 0), (2, 8), (2, 9), (0, 0), (0, 0), (4, 0), (2, 13), (2, 14), (2, 15), (0, 0), (1, 0), (2, 18), (2, 320), (2, 20), (2, 21), (2, 22), (0, 0), (1, 0), (2, 25), (2, 26), (2, 27), (2, 28), (2, 29), (2, 30), (4, 0)]
/-- arrays by field, ByPrice 15, ringed 22 and its words 23, the object 40 -/
def frD (c : Nat) : Option rw_C := match c with
  | 1 => some (.inl (0, 8))
  | 9 => some (.inl (3, 120))
  | 14 => some (.inl (0, 8))
  | 15 => some (.inr (3, [(2, 40)]))
  | 20 => some (.inl (0, 64))
  | 21 => some (.inl (0, 8))
  | 22 => some (.inr (14, bsF 22))
  | 23 => some (.inl (1, 1))
  | 26 => some (.inl (0, 24))
  | 27 => some (.inl (0, 8))
  | 28 => some (.inl (0, 9))
  | 29 => some (.inl (0, 9))
  | 40 => some (.inr (0, frF))
  | _ => none
def dX : rw_D := fun c => if 400 ≤ c then none else if 300 ≤ c then netD 300 (c - 300) else if 200 ≤ c then netD 200 (c - 200) else if 100 ≤ c then netD 100 (c - 100) else frD c
theorem nb1 : NB dX 100 := fun k q h => by have := netD_lt h; rw [dX, if_neg (by omega), if_neg (by omega), if_neg (by omega), if_pos (by omega), Nat.add_sub_cancel_left]; exact h
theorem nb2 : NB dX 200 := fun k q h => by have := netD_lt h; rw [dX, if_neg (by omega), if_neg (by omega), if_pos (by omega), Nat.add_sub_cancel_left]; exact h
theorem nb3 : NB dX 300 := fun k q h => by have := netD_lt h; rw [dX, if_neg (by omega), if_pos (by omega), Nat.add_sub_cancel_left]; exact h
/-- a part of the record -/
def subD (D1 D : rw_D) : Prop := ∀ (c : Nat) (q : rw_C), D1 c = some q → D c = some q
theorem subN {D : rw_D} {b : Nat} (hb : NB D b) : subD (dN b) D := fun c q h => by
  unfold dN at h
  by_cases g : b ≤ c
  · rw [if_pos g] at h
    have := hb _ _ h
    rw [show b + (c - b) = c by omega] at this
    exact this
  · rw [if_neg g] at h; cases h
theorem subB {D : rw_D} {o : Nat} (ho : BSo D o) : subD (dB o) D := fun c q h => by
  unfold dB at h
  by_cases g : c = o
  · rw [if_pos g] at h; rw [g, ho.1]; exact h
  · rw [if_neg g] at h
    by_cases g2 : c = o + 1
    · rw [if_pos g2] at h; rw [g2, ho.2]; exact h
    · rw [if_neg g2] at h; cases h
theorem bs22 : BSo dX 22 := ⟨rfl, rfl⟩
/-- M with D's cells as in M1 -/
def mg (D : rw_D) (M1 M : RM) : RM := fun c => match D c with
  | none => M c
  | some _ => M1 c
theorem mg_n {D : rw_D} {M1 M : RM} {c : Nat} (h : D c = none) : mg D M1 M c = M c := by unfold mg; rw [h]
theorem mg_s {D : rw_D} {M1 M : RM} {c : Nat} {q : rw_C} (h : D c = some q) : mg D M1 M c = M1 c := by unfold mg; rw [h]
/-- what of M the world beside the record hangs on: the cells that aren't the record's, and the raw references paper and image -/
def vw (M : RM) : RM := fun c k => if dX c = none ∨ (c = 40 ∧ (k = 12 ∨ k = 31)) then M c k else 0
theorem vw_up {M : RM} {c k : Nat} {x : Int} (h1 : dX c ≠ none) (h2 : c ≠ 40 ∨ (k ≠ 12 ∧ k ≠ 31)) : vw (up2 M c k x) = vw M := by
  funext a b
  unfold vw
  by_cases g : dX a = none ∨ (a = 40 ∧ (b = 12 ∨ b = 31))
  · rw [if_pos g, if_pos g]
    by_cases e : a = c
    · subst e
      rcases g with g | ⟨g, g2⟩
      · exact absurd g h1
      · refine up2_j (fun z => ?_)
        subst z
        rcases h2 with h2 | h2
        · exact h2 g
        · rcases g2 with g2 | g2
          · exact h2.1 g2
          · exact h2.2 g2
    · exact up2_c e
  · rw [if_neg g, if_neg g]
theorem vw_mg {D : rw_D} {M1 M : RM} (hs : subD D dX) (h40 : D 40 = none) : vw (mg D M1 M) = vw M := by
  funext a b
  unfold vw
  by_cases g : dX a = none ∨ (a = 40 ∧ (b = 12 ∨ b = 31))
  · rw [if_pos g, if_pos g]
    have hn : D a = none := by
      rcases g with g | ⟨g, -⟩
      · cases hd : D a with
        | none => rfl
        | some q => rw [hs a q hd] at g; cases g
      · rw [g]; exact h40
    rw [mg_n hn]
  · rw [if_neg g, if_neg g]
/-- a road's cell, the i-th of a row of roads f -/
def roadE (f : Nat → Int) (i : Nat) : va_E := .inr (7, [vI (f (5 * i)), vI (f (5 * i + 1)), vI (f (5 * i + 2)), vI (f (5 * i + 3)), vL (f (5 * i + 4))])
/-- a linked list at a: its nodes, its items -/
def LLh (hp : HP) (a : Nat) (ns its : List Nat) : Prop := (∃ mc : Int, hp a = some (.inr (12, [vI mc, vI ns.length, va_rf ns.head?, va_rf ns.getLast?]))) ∧ its.length = ns.length ∧ ns.Nodup ∧ ∀ (i n : Nat), ns[i]? = some n → hp n = some (.inr (27, [va_rf its[i]?, va_rf ns[i + 1]?, va_rf (if i = 0 then none else ns[i - 1]?)]))
def dyRoads (ad : Nat → Nat) (V : RM) (own : Nat → Nat) (hp : HP) : Prop := own (ad 2) = 1 ∧ ∃ ns its : List Nat, LLh hp (ad 2) ns its ∧ (∀ a ∈ ns, own a = 1) ∧ its.Nodup ∧ V 2 1 = ns.length ∧ ∀ (i a : Nat), its[i]? = some a → own a = 1 ∧ hp a = some (roadE (V 500) i)
def dyRead (ad : Nat → Nat) (own : Nat → Nat) (hp : HP) : Prop := own (ad 13) = 2 ∧ ∃ ns its : List Nat, LLh hp (ad 13) ns its ∧ ∀ a ∈ ns, own a = 2
/-- a way: its eight places for roads, then begin, length, many, isRing -/
def dyWays (G : GG) (ad : Nat → Nat) (V : RM) (own : Nat → Nat) (hp : HP) : Prop := own (ad 25) = 3 ∧ ∃ ns its : List Nat, LLh hp (ad 25) ns its ∧ (∀ a ∈ ns, own a = 3) ∧ V 25 1 = ns.length ∧ ∀ (i a : Nat), its[i]? = some a → own a = 3 ∧ ∃ ra : Nat, own ra = 3 ∧ hp a = some (.inr (11, [.ref ra, vI (V 502 (12 * i + 8)), vI (V 502 (12 * i + 9)), vI (V 502 (12 * i + 10)), vI (V 502 (12 * i + 11))])) ∧ ∃ s : Nat → Int, hp ra = some (.inl (G.2.1 0, (8, .inl (fun j => Int32.ofInt (s j))))) ∧ ∀ j : Nat, j < 8 → s j = V 502 (12 * i + j)
/-- a shot: towns, many, eight supplies, its roads -/
def shotE (G : GG) (own : Nat → Nat) (t : Nat) (hp : HP) (a : Nat) (f : Nat → Int) : Prop := own a = t ∧ ∃ (sa ra : Nat) (g : Nat → Option Nat), own sa = t ∧ own ra = t ∧ hp a = some (.inr (6, [.ref sa, .ref ra, vI (f 0), vI (f 1)])) ∧ (∃ s : Nat → Int, hp sa = some (.inl (G.2.1 0, (8, .inl (fun j => Int32.ofInt (s j))))) ∧ ∀ j : Nat, j < 8 → s j = f (2 + j)) ∧ hp ra = some (.inl (G.2.1 6, (24, .inr (.inr (.inr (.inr g)))))) ∧ (0 ≤ f 1 ∧ f 1 ≤ 24) ∧ ∀ i : Nat, (i : Int) < f 1 → ∃ r : Nat, g i = some r ∧ own r = t ∧ hp r = some (roadE (fun k => f (10 + k)) i)
def dyDone (G : GG) (ad : Nat → Nat) (V : RM) (own : Nat → Nat) (hp : HP) : Prop := own (ad 8) = 4 ∧ own (ad 41) = 4 ∧ ∃ (h n : Nat) (g : Nat → Option Nat), hp (ad 8) = some (.inr (20, [.ref (ad 41), vI h, vI ((h + n) % 15 : Nat)])) ∧ hp (ad 41) = some (.inl (G.2.1 4, (15, .inr (.inr (.inr (.inr g)))))) ∧ h < 15 ∧ n ≤ 13 ∧ V 8 0 = n ∧ ∀ i : Nat, i < n → ∃ a : Nat, g ((h + i) % 15) = some a ∧ shotE G own 4 hp a (fun k => V 503 (130 * i + k))
def dyImage (G : GG) (V : RM) (own : Nat → Nat) (hp : HP) : Prop := V 40 31 = 0 ∨ ∃ a : Nat, V 40 31 = a + 1 ∧ shotE G own 5 hp a (V 504)
/-- the four rows of longs: row r has V 509 r cells (-1: none), V (505 + r) -/
def rowE (G : GG) (V : RM) (own : Nat → Nat) (hp : HP) (r : Nat) (z : Option Nat) : Prop := (z = none ∧ V 509 r = -1) ∨ ∃ a n : Nat, z = some a ∧ own a = 60 + r ∧ V 509 r = n ∧ n ≤ 30 ∧ hp a = some (.inl (G.2.1 1, (n, .inr (.inl (fun j => Int64.ofInt (V (505 + r) j))))))
def dyRows (G : GG) (ad : Nat → Nat) (V : RM) (own : Nat → Nat) (hp : HP) : Prop := own (ad 18) = 6 ∧ ∃ g : Nat → Option Nat, hp (ad 18) = some (.inl (G.2.1 7, (4, .inr (.inr (.inr (.inr g)))))) ∧ ∀ r : Nat, r < 4 → rowE G V own hp r (g r)
/-- what lies beside the record (own: whose an address is; 0: nobody's or the record's); hp is seen at owned addresses alone -/
def DYo (G : GG) (ad : Nat → Nat) (V : RM) (own : Nat → Nat) (hp : HP) : Prop := dyRoads ad V own hp ∧ dyRead ad own hp ∧ dyWays G ad V own hp ∧ dyDone G ad V own hp ∧ dyImage G V own hp ∧ dyRows G ad V own hp
def rst (own : Nat → Nat) (hp : HP) : HP := fun a => if own a = 0 then none else hp a
def DY (G : GG) (ad : Nat → Nat) (V : RM) (hp : HP) : Prop := ∃ own : Nat → Nat, (∀ c : Nat, dX c ≠ none → own (ad c) = 0) ∧ DYo G ad V own (rst own hp)
theorem DY.fr {G : GG} {ad : Nat → Nat} {V : RM} {hp0 hp : HP} (h : DY G ad V hp0) (hF : Fr dX ad hp0 hp) : DY G ad V hp := by
  obtain ⟨own, h1, h2⟩ := h
  refine ⟨own, h1, ?_⟩
  have e : rst own hp = rst own hp0 := by
    funext a
    unfold rst
    by_cases g : own a = 0
    · rw [if_pos g, if_pos g]
    · rw [if_neg g, if_neg g]
      exact hF a (fun c hc e => g (by rw [e]; exact h1 c hc))
  rw [e]
  exact h2
/-- the x-world's state -/
def XR (G : GG) (ad : Nat → Nat) (hp0 : HP) (M : RM) (H : Heap) (locs : List Loc) : Prop := RW G dX ad hp0 M H locs ∧ DY G ad (vw M) hp0
def XWh (G : GG) (ad : Nat → Nat) (M : RM) (H : Heap) : Prop := ∃ hp : HP, WR G hp H ∧ RP G dX ad M hp ∧ DY G ad (vw M) hp
theorem XR.wh {G : GG} {ad : Nat → Nat} {hp0 : HP} {M : RM} {H : Heap} {locs : List Loc} (h : XR G ad hp0 M H locs) : XWh G ad M H := by
  obtain ⟨⟨⟨hp, hW, hP, hF⟩, -⟩, hY⟩ := h
  exact ⟨hp, hW, hP, hY.fr hF⟩
theorem XWh.xr {G : GG} {ad : Nat → Nat} {M : RM} {H : Heap} {locs : List Loc} (h : XWh G ad M H) (hL : LO G locs) : ∃ hp0 : HP, XR G ad hp0 M H locs := by
  obtain ⟨hp, hW, hP, hY⟩ := h
  exact ⟨hp, ⟨⟨hp, hW, hP, fun _ _ => rfl⟩, hL⟩, hY⟩
theorem RP.sub {G : GG} {D D1 : rw_D} {ad : Nat → Nat} {M : RM} {hp : HP} (hs : subD D1 D) (h : RP G D ad M hp) : RP G D1 ad M hp :=
  ⟨fun c q hc => h.1 c q (hs c q hc), fun i j hi hj e => h.2 i j (fun z => by
    cases hd : D1 i with
    | none => exact hi hd
    | some q => rw [hs i q hd] at z; cases z) (fun z => by
    cases hd : D1 j with
    | none => exact hj hd
    | some q => rw [hs j q hd] at z; cases z) e⟩
/-- a callee of a part of the record has run -/
theorem XR.sub {G : GG} {ad : Nat → Nat} {hp0 hp hp1 : HP} {M M1 : RM} {H1 : Heap} {locs1 : List Loc} {D1 : rw_D} (hs : subD D1 dX) (h40 : D1 40 = none) (hP : RP G dX ad M hp) (hF : Fr dX ad hp0 hp) (hY : DY G ad (vw M) hp0) (hW1 : WR G hp1 H1) (hP1 : RP G D1 ad M1 hp1) (hF1 : Fr D1 ad hp hp1) (hL : LO G locs1) : XR G ad hp0 (mg D1 M1 M) H1 locs1 := by
  refine ⟨⟨⟨hp1, hW1, ⟨fun c q hc => ?_, hP.2⟩, fun a ha => ?_⟩, hL⟩, by rw [vw_mg hs h40]; exact hY⟩
  · cases hd : D1 c with
    | some q1 =>
      have e : q1 = q := Option.some.inj ((hs c q1 hd).symm.trans hc)
      subst e
      rw [mg_s hd]
      exact hP1.1 c q1 hd
    | none =>
      rw [mg_n hd, ← hP.1 c q hc]
      refine hF1 (ad c) (fun c' hc' e => ?_)
      have hx : dX c' ≠ none := fun z => by
        cases hd2 : D1 c' with
        | none => exact hc' hd2
        | some q2 => rw [hs c' q2 hd2] at z; cases z
      have e2 := hP.2 c c' (by rw [hc]; exact fun z => by cases z) hx e
      subst e2
      exact hc' hd
  · rw [← hF a ha]
    refine hF1 a (fun c hc => ha c (fun z => ?_))
    cases hd : D1 c with
    | none => exact hc hd
    | some q => rw [hs c q hd] at z; cases z
