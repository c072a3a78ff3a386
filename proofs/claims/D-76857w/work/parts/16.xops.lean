/-! 16 XOPS: what single acts do to XO -/
set_option maxRecDepth 100000
def setc (M : RM) (c : Nat) (f : Nat → Int) : RM := fun a j => if a = c then f j else M a j
theorem setc_s {M : RM} {c : Nat} {f : Nat → Int} : setc M c f c = f := by funext j; simp [setc]
theorem setc_n {M : RM} {c a : Nat} {f : Nat → Int} (h : a ≠ c) : setc M c f a = M a := by funext j; simp [setc, h]
theorem up2_setc (M : RM) (c k : Nat) (x : Int) : up2 M c k x = setc M c (up2 M c k x c) := by
  funext a j
  by_cases h : a = c
  · subst h; rw [setc_s]
  · rw [setc_n h, up2_c h]
theorem vw_setc {M : RM} {c : Nat} {f : Nat → Int} (h : dX c ≠ none) (h2 : c = 40 → f 12 = M 40 12 ∧ f 31 = M 40 31) : vw (setc M c f) = vw M := by
  funext a b
  unfold vw
  by_cases g : dX a = none ∨ (a = 40 ∧ (b = 12 ∨ b = 31))
  · rw [if_pos g, if_pos g]
    by_cases e : a = c
    · subst e
      rw [setc_s]
      rcases g with g | ⟨g1, g2⟩
      · exact absurd g h
      · subst g1
        obtain ⟨q1, q2⟩ := h2 rfl
        rcases g2 with g2 | g2
        · rw [g2]; exact q1
        · rw [g2]; exact q2
    · rw [setc_n e]
  · rw [if_neg g, if_neg g]
section XOPS
variable {G : GG} {ad : Nat → Nat} {M M1 : RM} {own own1 : Nat → Nat} {hp hp1 : HP}
theorem RP.fr (h : RP G dX ad M hp) (k : ∀ c : Nat, dX c ≠ none → hp1 (ad c) = hp (ad c)) (v : ∀ c : Nat, dX c ≠ none → M1 c = M c) : RP G dX ad M1 hp1 := ⟨fun c q hc => by
  have hn : dX c ≠ none := by rw [hc]; exact fun z => by cases z
  rw [k c hn, v c hn]
  exact h.1 c q hc, h.2⟩
theorem XO.cell {c : Nat} {q : rw_C} {f : Nat → Int} {e1 : va_E} (h : XO G ad M own hp) (hd : dX c = some q) (h2 : c = 40 → f 12 = M 40 12 ∧ f 31 = M 40 31) (he : e1 = rwc G ad f q) : XO G ad (setc M c f) own (hup hp (ad c) e1) := by
  obtain ⟨h0, h1, h3, h4⟩ := h
  have hn : dX c ≠ none := by rw [hd]; exact fun z => by cases z
  refine ⟨⟨fun c' q' hd' => ?_, h0.2⟩, h1, fun a ha => ?_, ?_⟩
  · by_cases g : c' = c
    · subst g
      rw [hd] at hd'
      cases hd'
      rw [hup_s, setc_s, he]
    · rw [hup_n (fun z => g (h0.2 c' c (by rw [hd']; exact fun z => by cases z) hn z)), setc_n g]
      exact h0.1 c' q' hd'
  · by_cases g : a = ad c
    · rw [g, hup_s] at ha; cases ha
    · rw [hup_n g] at ha; exact h3 a ha
  · rw [vw_setc hn h2]
    have e : rst own (hup hp (ad c) e1) = rst own hp := by
      funext a
      unfold rst
      by_cases g : own a = 0
      · rw [if_pos g, if_pos g]
      · rw [if_neg g, if_neg g, hup_n (fun z => g (by rw [z]; exact h1 c hn))]
    rw [e]
    exact h4
theorem XO.chg (h : XO G ad M own hp) (k : ∀ b : Nat, (own b ≠ 0 ∨ ∃ c : Nat, dX c ≠ none ∧ b = ad c) → hp1 b = hp b) : XO G ad M own hp1 := by
  obtain ⟨h0, h1, h3, h4⟩ := h
  refine ⟨h0.fr (fun c hc => k _ (Or.inr ⟨c, hc, rfl⟩)) (fun _ _ => rfl), h1, fun a ha => ?_, ?_⟩
  · refine Classical.byContradiction fun g => g (h3 a ?_)
    rw [← k a (Or.inl g)]; exact ha
  · have e : rst own hp1 = rst own hp := by
      funext a
      unfold rst
      by_cases g : own a = 0
      · rw [if_pos g, if_pos g]
      · rw [if_neg g, if_neg g, k a (Or.inl g)]
    rw [e]; exact h4
theorem XO.al (h : XO G ad M own hp) {b : Nat} (hb : own b ≠ 0 ∨ ∃ c : Nat, dX c ≠ none ∧ b = ad c) : hp b ≠ none := by
  intro z
  rcases hb with hb | ⟨c, hc, rfl⟩
  · exact hb (h.2.2.1 b z)
  · cases hd : dX c with
    | none => exact hc hd
    | some q => rw [h.1.1 c q hd] at z; cases z
theorem XO.ext (h : XO G ad M own hp) (k : ∀ b : Nat, hp b ≠ none → hp1 b = hp b) : XO G ad M own hp1 := h.chg (fun b hb => k b (h.al hb))
/-- an int field of the object is put -/
theorem XO.putI {k : Nat} {x : Int} {F : HP → Prop} (h : XO G ad M own hp) (hf : frF[k]? = some (0, 0)) (hF : ∀ hp1 : HP, XO G ad (up2 M 40 k x) own hp1 → (∀ b : Nat, b ≠ ad 40 → hp1 b = hp b) → F hp1) : hPut hp (ad 40) 0 k (vI x) F := by
  refine ⟨_, h.this, by rw [List.length_mapIdx]; exact (List.getElem?_eq_some_iff.mp hf).1, ?_⟩
  refine hF _ ?_ (fun b hb => hup_n hb)
  rw [up2_setc]
  refine h.cell rfl (fun _ => ⟨up2_j (fun z => ?_), up2_j (fun z => ?_)⟩) ?_
  · rw [← z] at hf; cases hf
  · rw [← z] at hf; cases hf
  · show _ = Sum.inr (0, _)
    rw [← mapIdx_set hf]
    rfl
/-- a copy into an int array of the record -/
theorem XO.copyI {c n a0 n0 : Nat} {f : Nat → Int} {F : HP → Prop} (h : XO G ad M own hp) (hd : dX c = some (.inl (0, n))) (hc : c ≠ 40) (h0 : hp a0 = some (.inl (G.2.1 0, (n0, .inl (fun j => Int32.ofInt (f j)))))) {k : Int} (hk : 0 ≤ k ∧ k ≤ n0 ∧ k ≤ n ∧ n0 ≤ 1000 ∧ n ≤ 1000) (hF : ∀ hp1 : HP, XO G ad (setc M c (fun j => if (j : Int) < k then f j else M c j)) own hp1 → (∀ b : Nat, b ≠ ad c → hp1 b = hp b) → F hp1) : hCpI G hp a0 0 (ad c) 0 k F := by
  obtain ⟨k1, k2, k3, k4, k5⟩ := hk
  refine ⟨n0, n, _, fun j => Int32.ofInt (M c j), h0, h.1.1 c _ hd, ⟨by omega, by omega, by omega, by omega, k1, by omega, by omega⟩, ?_⟩
  refine hF _ (h.cell hd (fun e => absurd e hc) ?_) (fun b hb => hup_n hb)
  show (Sum.inl (G.2.1 0, n, _) : va_E) = Sum.inl (G.2.1 0, n, Sum.inl _)
  congr 4
  funext j
  unfold va_cpy
  by_cases g : (j : Int) < k
  · rw [if_pos ⟨by omega, by omega⟩]
    show _ = Int32.ofInt (if (j : Int) < k then f j else M c j)
    rw [if_pos g]
    show Int32.ofInt (f _) = _
    congr 2
    show (0 : Int).toNat + (j - (0 : Int).toNat) = j
    omega
  · rw [if_neg (by omega)]
    show _ = Int32.ofInt (if (j : Int) < k then f j else M c j)
    rw [if_neg g]
/-- the roads as they lie on the heap -/
def RVw (G : GG) (ad : Nat → Nat) (M : RM) (own : Nat → Nat) (hp : HP) (ns its : List Nat) : Prop := own (ad 2) = 1 ∧ LLh hp (ad 2) ns its ∧ (∀ a ∈ ns, own a = 1) ∧ its.Nodup ∧ M 2 1 = ns.length ∧ ∀ (i a : Nat), its[i]? = some a → own a = 1 ∧ hp a = some (roadE (M 500) i)
theorem LLh.rst {t : Nat} {a : Nat} {ns its : List Nat} (h : LLh hp a ns its) (h0 : own a = t + 1) (h1 : ∀ n ∈ ns, own n = t + 1) : LLh (rst own hp) a ns its := h.fr (rst_t h0) (fun n hn => rst_t (h1 n hn))
theorem LLh.unrst {a : Nat} {ns its : List Nat} (h : LLh (_root_.Jvm.Pilot.CFreightRoadsLaw_law_r7259_21d7cb.rst own hp) a ns its) : LLh hp a ns its := by
  obtain ⟨⟨mc, h0⟩, h1, h2, h3⟩ := h
  exact ⟨⟨mc, (rst_some h0).2⟩, h1, h2, fun i n hi => (rst_some (h3 i n hi)).2⟩
theorem XO.roads (h : XO G ad M own hp) : ∃ ns its : List Nat, RVw G ad M own hp ns its := by
  obtain ⟨-, -, -, ⟨a0, ns, its, a1, a2, a3, a4, a5⟩, -⟩ := h
  rw [vw_v rfl] at a4 a5
  exact ⟨ns, its, a0, a1.unrst, a2, a3, a4, fun i a hi => ⟨(a5 i a hi).1, (rst_some (a5 i a hi).2).2⟩⟩
theorem RVw.dy {ns its : List Nat} (h : RVw G ad M own hp ns its) : dyRoads ad (vw M) own (_root_.Jvm.Pilot.CFreightRoadsLaw_law_r7259_21d7cb.rst own hp) := by
  obtain ⟨a0, a1, a2, a3, a4, a5⟩ := h
  refine ⟨a0, ns, its, a1.rst a0 a2, a2, a3, by rw [vw_v rfl]; exact a4, fun i a hi => ⟨(a5 i a hi).1, ?_⟩⟩
  rw [rst_t (a5 i a hi).1, (a5 i a hi).2, vw_v rfl]
/-- the roads are other ones; all else is kept -/
theorem XO.setRoads {ns its : List Nat} (h : XO G ad M own hp) (hR : RVw G ad M1 own1 hp1 ns its) (hk : ∀ b : Nat, own b ≠ 1 → hp b ≠ none → (own b ≠ 0 ∨ ∃ c : Nat, dX c ≠ none ∧ b = ad c) → own1 b = own b ∧ hp1 b = hp b) (hn : ∀ b : Nat, hp1 b = none → own1 b = 0) (hM : ∀ c : Nat, c ≠ 2 → c ≠ 500 → M1 c = M c) : XO G ad M1 own1 hp1 := by
  have hal : ∀ {b : Nat}, (own b ≠ 0 ∨ ∃ c : Nat, dX c ≠ none ∧ b = ad c) → hp b ≠ none := fun hb => h.al hb
  obtain ⟨h0, h1, h3, d1, d2, d3, d4, d5, d6⟩ := h
  have hrec : ∀ c : Nat, dX c ≠ none → own1 (ad c) = own (ad c) ∧ hp1 (ad c) = hp (ad c) := fun c hc => hk _ (by rw [h1 c hc]; decide) (hal (Or.inr ⟨c, hc, rfl⟩)) (Or.inr ⟨c, hc, rfl⟩)
  have hkp : ∀ t : Nat, t ≠ 1 → t ≠ 0 → kp t own own1 hp hp1 := fun t ht ht0 a ha => by
    obtain ⟨q1, q2⟩ := hk a (by rw [ha]; exact ht) (hal (Or.inl (by rw [ha]; exact ht0))) (Or.inl (by rw [ha]; exact ht0))
    exact ⟨q1.trans ha, q2⟩
  have hv : ∀ c j : Nat, c ≠ 2 → c ≠ 500 → vw M1 c j = vw M c j := fun c j q1 q2 => by unfold vw; rw [hM c q1 q2]
  refine ⟨h0.fr (fun c hc => (hrec c hc).2) (fun c hc => hM c (fun z => hc (by rw [z]; rfl)) (fun z => hc (by rw [z]; rfl))), fun c hc => ((hrec c hc).1).trans (h1 c hc), hn, hR.dy, d2.fr (hkp 2 (by decide) (by decide)), d3.fr (hkp 3 (by decide) (by decide)) (hv 25 1 (by decide) (by decide)) (fun j => hv 502 j (by decide) (by decide)), d4.fr (hkp 4 (by decide) (by decide)) (hv 8 0 (by decide) (by decide)) (fun j => hv 503 j (by decide) (by decide)), d5.fr (hkp 5 (by decide) (by decide)) (hv 40 31 (by decide) (by decide)) (fun j => hv 504 j (by decide) (by decide)), d6.fr (hkp 6 (by decide) (by decide)) (fun r hr => hkp (60 + r) (by omega) (by omega)) (fun j => hv 509 j (by decide) (by decide)) (fun r j hr => hv (505 + r) j (by omega) (by omega))⟩
theorem XO.setRead (h : XO G ad M own hp) (hR : dyRead ad own1 (rst own1 hp1)) (hk : ∀ b : Nat, own b ≠ 2 → hp b ≠ none → (own b ≠ 0 ∨ ∃ c : Nat, dX c ≠ none ∧ b = ad c) → own1 b = own b ∧ hp1 b = hp b) (hn : ∀ b : Nat, hp1 b = none → own1 b = 0) (hM : ∀ c : Nat, M1 c = M c) : XO G ad M1 own1 hp1 := by
  have hal : ∀ {b : Nat}, (own b ≠ 0 ∨ ∃ c : Nat, dX c ≠ none ∧ b = ad c) → hp b ≠ none := fun hb => h.al hb
  obtain ⟨h0, h1, h3, d1, d2, d3, d4, d5, d6⟩ := h
  have hrec : ∀ c : Nat, dX c ≠ none → own1 (ad c) = own (ad c) ∧ hp1 (ad c) = hp (ad c) := fun c hc => hk _ (by rw [h1 c hc]; decide) (hal (Or.inr ⟨c, hc, rfl⟩)) (Or.inr ⟨c, hc, rfl⟩)
  have hkp : ∀ t : Nat, t ≠ 2 → t ≠ 0 → kp t own own1 hp hp1 := fun t ht ht0 a ha => by
    obtain ⟨q1, q2⟩ := hk a (by rw [ha]; exact ht) (hal (Or.inl (by rw [ha]; exact ht0))) (Or.inl (by rw [ha]; exact ht0))
    exact ⟨q1.trans ha, q2⟩
  have hv : ∀ c j : Nat, vw M1 c j = vw M c j := fun c j  => by unfold vw; rw [hM c ]
  refine ⟨h0.fr (fun c hc => (hrec c hc).2) (fun c hc => hM c ), fun c hc => ((hrec c hc).1).trans (h1 c hc), hn, d1.fr (hkp 1 (by omega) (by omega)) (hv 2 1 ) (fun j => hv 500 j ), hR, d3.fr (hkp 3 (by omega) (by omega)) (hv 25 1 ) (fun j => hv 502 j ), d4.fr (hkp 4 (by omega) (by omega)) (hv 8 0 ) (fun j => hv 503 j ), d5.fr (hkp 5 (by omega) (by omega)) (hv 40 31 ) (fun j => hv 504 j ), d6.fr (hkp 6 (by omega) (by omega)) (fun r hr => hkp (60 + r) (by omega) (by omega)) (fun j => hv 509 j ) (fun r j hr => hv (505 + r) j )⟩
theorem XO.setWays (h : XO G ad M own hp) (hR : dyWays G ad (vw M1) own1 (rst own1 hp1)) (hk : ∀ b : Nat, own b ≠ 3 → hp b ≠ none → (own b ≠ 0 ∨ ∃ c : Nat, dX c ≠ none ∧ b = ad c) → own1 b = own b ∧ hp1 b = hp b) (hn : ∀ b : Nat, hp1 b = none → own1 b = 0) (hM : ∀ c : Nat, c ≠ 25 → c ≠ 502 → M1 c = M c) : XO G ad M1 own1 hp1 := by
  have hal : ∀ {b : Nat}, (own b ≠ 0 ∨ ∃ c : Nat, dX c ≠ none ∧ b = ad c) → hp b ≠ none := fun hb => h.al hb
  obtain ⟨h0, h1, h3, d1, d2, d3, d4, d5, d6⟩ := h
  have hrec : ∀ c : Nat, dX c ≠ none → own1 (ad c) = own (ad c) ∧ hp1 (ad c) = hp (ad c) := fun c hc => hk _ (by rw [h1 c hc]; decide) (hal (Or.inr ⟨c, hc, rfl⟩)) (Or.inr ⟨c, hc, rfl⟩)
  have hkp : ∀ t : Nat, t ≠ 3 → t ≠ 0 → kp t own own1 hp hp1 := fun t ht ht0 a ha => by
    obtain ⟨q1, q2⟩ := hk a (by rw [ha]; exact ht) (hal (Or.inl (by rw [ha]; exact ht0))) (Or.inl (by rw [ha]; exact ht0))
    exact ⟨q1.trans ha, q2⟩
  have hv : ∀ c j : Nat, c ≠ 25 → c ≠ 502 → vw M1 c j = vw M c j := fun c j q0 q1 => by unfold vw; rw [hM c q0 q1]
  refine ⟨h0.fr (fun c hc => (hrec c hc).2) (fun c hc => hM c (fun z => hc (by rw [z]; rfl)) (fun z => hc (by rw [z]; rfl))), fun c hc => ((hrec c hc).1).trans (h1 c hc), hn, d1.fr (hkp 1 (by omega) (by omega)) (hv 2 1 (by omega) (by omega)) (fun j => hv 500 j (by omega) (by omega)), d2.fr (hkp 2 (by omega) (by omega)) , hR, d4.fr (hkp 4 (by omega) (by omega)) (hv 8 0 (by omega) (by omega)) (fun j => hv 503 j (by omega) (by omega)), d5.fr (hkp 5 (by omega) (by omega)) (hv 40 31 (by omega) (by omega)) (fun j => hv 504 j (by omega) (by omega)), d6.fr (hkp 6 (by omega) (by omega)) (fun r hr => hkp (60 + r) (by omega) (by omega)) (fun j => hv 509 j (by omega) (by omega)) (fun r j hr => hv (505 + r) j (by omega) (by omega))⟩
theorem XO.setDone (h : XO G ad M own hp) (hR : dyDone G ad (vw M1) own1 (rst own1 hp1)) (hk : ∀ b : Nat, own b ≠ 4 → hp b ≠ none → (own b ≠ 0 ∨ ∃ c : Nat, dX c ≠ none ∧ b = ad c) → own1 b = own b ∧ hp1 b = hp b) (hn : ∀ b : Nat, hp1 b = none → own1 b = 0) (hM : ∀ c : Nat, c ≠ 8 → c ≠ 503 → M1 c = M c) : XO G ad M1 own1 hp1 := by
  have hal : ∀ {b : Nat}, (own b ≠ 0 ∨ ∃ c : Nat, dX c ≠ none ∧ b = ad c) → hp b ≠ none := fun hb => h.al hb
  obtain ⟨h0, h1, h3, d1, d2, d3, d4, d5, d6⟩ := h
  have hrec : ∀ c : Nat, dX c ≠ none → own1 (ad c) = own (ad c) ∧ hp1 (ad c) = hp (ad c) := fun c hc => hk _ (by rw [h1 c hc]; decide) (hal (Or.inr ⟨c, hc, rfl⟩)) (Or.inr ⟨c, hc, rfl⟩)
  have hkp : ∀ t : Nat, t ≠ 4 → t ≠ 0 → kp t own own1 hp hp1 := fun t ht ht0 a ha => by
    obtain ⟨q1, q2⟩ := hk a (by rw [ha]; exact ht) (hal (Or.inl (by rw [ha]; exact ht0))) (Or.inl (by rw [ha]; exact ht0))
    exact ⟨q1.trans ha, q2⟩
  have hv : ∀ c j : Nat, c ≠ 8 → c ≠ 503 → vw M1 c j = vw M c j := fun c j q0 q1 => by unfold vw; rw [hM c q0 q1]
  refine ⟨h0.fr (fun c hc => (hrec c hc).2) (fun c hc => hM c (fun z => hc (by rw [z]; rfl)) (fun z => hc (by rw [z]; rfl))), fun c hc => ((hrec c hc).1).trans (h1 c hc), hn, d1.fr (hkp 1 (by omega) (by omega)) (hv 2 1 (by omega) (by omega)) (fun j => hv 500 j (by omega) (by omega)), d2.fr (hkp 2 (by omega) (by omega)) , d3.fr (hkp 3 (by omega) (by omega)) (hv 25 1 (by omega) (by omega)) (fun j => hv 502 j (by omega) (by omega)), hR, d5.fr (hkp 5 (by omega) (by omega)) (hv 40 31 (by omega) (by omega)) (fun j => hv 504 j (by omega) (by omega)), d6.fr (hkp 6 (by omega) (by omega)) (fun r hr => hkp (60 + r) (by omega) (by omega)) (fun j => hv 509 j (by omega) (by omega)) (fun r j hr => hv (505 + r) j (by omega) (by omega))⟩
theorem XO.setRows (h : XO G ad M own hp) (hR : dyRows G ad (vw M1) own1 (rst own1 hp1)) (hk : ∀ b : Nat, (own b ≠ 6 ∧ (own b < 60 ∨ 63 < own b)) → hp b ≠ none → (own b ≠ 0 ∨ ∃ c : Nat, dX c ≠ none ∧ b = ad c) → own1 b = own b ∧ hp1 b = hp b) (hn : ∀ b : Nat, hp1 b = none → own1 b = 0) (hM : ∀ c : Nat, c ≠ 505 → c ≠ 506 → c ≠ 507 → c ≠ 508 → c ≠ 509 → M1 c = M c) : XO G ad M1 own1 hp1 := by
  have hal : ∀ {b : Nat}, (own b ≠ 0 ∨ ∃ c : Nat, dX c ≠ none ∧ b = ad c) → hp b ≠ none := fun hb => h.al hb
  obtain ⟨h0, h1, h3, d1, d2, d3, d4, d5, d6⟩ := h
  have hrec : ∀ c : Nat, dX c ≠ none → own1 (ad c) = own (ad c) ∧ hp1 (ad c) = hp (ad c) := fun c hc => hk _ (by rw [h1 c hc]; decide) (hal (Or.inr ⟨c, hc, rfl⟩)) (Or.inr ⟨c, hc, rfl⟩)
  have hkp : ∀ t : Nat, (t ≠ 6 ∧ (t < 60 ∨ 63 < t)) → t ≠ 0 → kp t own own1 hp hp1 := fun t ht ht0 a ha => by
    obtain ⟨q1, q2⟩ := hk a (by rw [ha]; exact ht) (hal (Or.inl (by rw [ha]; exact ht0))) (Or.inl (by rw [ha]; exact ht0))
    exact ⟨q1.trans ha, q2⟩
  have hv : ∀ c j : Nat, c ≠ 505 → c ≠ 506 → c ≠ 507 → c ≠ 508 → c ≠ 509 → vw M1 c j = vw M c j := fun c j q0 q1 q2 q3 q4 => by unfold vw; rw [hM c q0 q1 q2 q3 q4]
  refine ⟨h0.fr (fun c hc => (hrec c hc).2) (fun c hc => hM c (fun z => hc (by rw [z]; rfl)) (fun z => hc (by rw [z]; rfl)) (fun z => hc (by rw [z]; rfl)) (fun z => hc (by rw [z]; rfl)) (fun z => hc (by rw [z]; rfl))), fun c hc => ((hrec c hc).1).trans (h1 c hc), hn, d1.fr (hkp 1 (by omega) (by omega)) (hv 2 1 (by omega) (by omega) (by omega) (by omega) (by omega)) (fun j => hv 500 j (by omega) (by omega) (by omega) (by omega) (by omega)), d2.fr (hkp 2 (by omega) (by omega)) , d3.fr (hkp 3 (by omega) (by omega)) (hv 25 1 (by omega) (by omega) (by omega) (by omega) (by omega)) (fun j => hv 502 j (by omega) (by omega) (by omega) (by omega) (by omega)), d4.fr (hkp 4 (by omega) (by omega)) (hv 8 0 (by omega) (by omega) (by omega) (by omega) (by omega)) (fun j => hv 503 j (by omega) (by omega) (by omega) (by omega) (by omega)), d5.fr (hkp 5 (by omega) (by omega)) (hv 40 31 (by omega) (by omega) (by omega) (by omega) (by omega)) (fun j => hv 504 j (by omega) (by omega) (by omega) (by omega) (by omega)), hR⟩
theorem XO.clearRoads {F : HP → Prop} (h : XO G ad M own hp) (hF : ∀ hp1 : HP, XO G ad (up2 M 2 1 0) own hp1 → (∀ b : Nat, own b ≠ 1 → hp1 b = hp b) → F hp1) : w_J3_clear G hp (ad 2) F := by
  obtain ⟨ns, its, r0, r1, r2, r3, r4, r5⟩ := h.roads
  refine ll_clear r1 (fun hp1 g1 g2 g3 => ?_)
  have hk : ∀ b : Nat, own b ≠ 1 → hp1 b = hp b := fun b hb => g2 b (fun z => hb (by rw [z]; exact r0)) (fun z => hb (r2 b z))
  exact hF _ (h.setRoads (ns := []) (its := []) ⟨r0, g1, fun a ha => (by cases ha), List.nodup_nil, up2_s _ _ _ _, fun i a hi => (by simp at hi)⟩ (fun b b1 b2 _ => ⟨rfl, hk b b1⟩) (fun b hb => h.2.2.1 b (Classical.byContradiction fun z => g3 b z hb)) (fun c c1 _ => by funext j; exact up2_c c1)) hk
end XOPS
