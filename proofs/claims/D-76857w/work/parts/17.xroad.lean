/-! 17 XROAD: roads added, copied, altered; a shot -/
set_option maxRecDepth 100000
theorem ne_cell {hp : HP} {a b : Nat} {e1 e2 : va_E} (h1 : hp a = some e1) (h2 : hp b = some e2) (h : e1 ≠ e2) : a ≠ b := fun z => h (by rw [z, h2] at h1; exact (Option.some.inj h1).symm)
theorem ne_new {hp : HP} {a b : Nat} {e1 : va_E} (h1 : hp a = some e1) (h2 : hp b = none) : a ≠ b := fun z => by rw [z, h2] at h1; cases h1
theorem roadE_ext {f g : Nat → Int} {i i1 : Nat} (h : ∀ k : Nat, k < 5 → f (5 * i + k) = g (5 * i1 + k)) : roadE f i = roadE g i1 := by
  have h0 := h 0 (by decide)
  rw [Nat.add_zero, Nat.add_zero] at h0
  unfold roadE
  rw [h0, h 1 (by decide), h 2 (by decide), h 3 (by decide), h 4 (by decide)]
def road5 (a b lo mo co : Int) : Nat → Int := fun j => match j with | 0 => a | 1 => b | 2 => lo | 3 => mo | _ => co
def pAdd (M : RM) (f : Nat → Int) : RM := fun c j => if c = 2 then (if j = 1 then M 2 1 + 1 else M 2 j) else if c = 500 then (if 5 * (M 2 1).toNat ≤ j ∧ j < 5 * (M 2 1).toNat + 5 then f (j - 5 * (M 2 1).toNat) else M 500 j) else M c j
def pBound (M : RM) (i : Nat) (lo mo co : Int) : RM := fun c j => if c = 500 then (if j = 5 * i + 2 then lo else if j = 5 * i + 3 then mo else if j = 5 * i + 4 then co else M 500 j) else M c j
def shotF (M : RM) : Nat → Int := fun k => if k = 0 then M 40 0 else if k = 1 then M 2 1 else if k < 10 then M 1 (k - 2) else M 500 (k - 10)
section XRD
variable {G : GG} {ad : Nat → Nat} {M M1 : RM} {own own1 : Nat → Nat} {hp hp1 : HP}
theorem newRoad {a b lo mo co : Int} {F : Option Nat → HP → Prop} (hF : ∀ q : Nat, hp q = none → F (some q) (hup hp q (roadE (road5 a b lo mo co) 0))) : hNew hp 7 df_X7 fun hp11 q12 => w_X7_init G hp11 q12 a b (fun hp13 => hIs hp13 q12 7 (w_X7_bounded G hp13 q12 lo mo co F)) := by
  intro q hq
  refine ⟨_, hup_s, Nat.le_of_ble_eq_true rfl, ?_⟩
  rw [hup_hup]
  refine ⟨_, hup_s, Nat.le_of_ble_eq_true rfl, ?_⟩
  rw [hup_hup]
  refine ⟨⟨_, hup_s⟩, _, hup_s, Nat.le_of_ble_eq_true rfl, ?_⟩
  rw [hup_hup]
  refine ⟨_, hup_s, Nat.le_of_ble_eq_true rfl, ?_⟩
  rw [hup_hup]
  refine ⟨_, hup_s, Nat.le_of_ble_eq_true rfl, ?_⟩
  rw [hup_hup]
  exact hF q hq
theorem copyRoad {x i : Nat} {f : Nat → Int} {F : Option Nat → HP → Prop} (hx : hp x = some (roadE f i)) (hF : ∀ q : Nat, hp q = none → F (some q) (hup hp q (roadE f i))) : w_X7_copy G hp x F := by
  intro q hq
  have hne : x ≠ q := ne_new hx hq
  refine ⟨_, f (5 * i), (hup_n hne).trans hx, rfl, _, f (5 * i + 1), (hup_n hne).trans hx, rfl, ?_⟩
  refine ⟨_, hup_s, Nat.le_of_ble_eq_true rfl, ?_⟩
  rw [hup_hup]
  refine ⟨_, hup_s, Nat.le_of_ble_eq_true rfl, ?_⟩
  rw [hup_hup]
  refine ⟨_, f (5 * i + 2), (hup_n hne).trans hx, rfl, _, f (5 * i + 3), (hup_n hne).trans hx, rfl, _, f (5 * i + 4), (hup_n hne).trans hx, rfl, ⟨_, hup_s⟩, _, hup_s, Nat.le_of_ble_eq_true rfl, ?_⟩
  rw [hup_hup]
  refine ⟨_, hup_s, Nat.le_of_ble_eq_true rfl, ?_⟩
  rw [hup_hup]
  refine ⟨_, hup_s, Nat.le_of_ble_eq_true rfl, ?_⟩
  rw [hup_hup]
  exact hF q hq
theorem XO.addRoad {x : Nat} {f : Nat → Int} {F : HP → Prop} (h : XO G ad M own hp) (hx : hp x = some (roadE f 0)) (ho : own x = 0) (hr : ∀ c : Nat, dX c ≠ none → x ≠ ad c) (hF : ∀ (own1 : Nat → Nat) (hp1 : HP), XO G ad (pAdd M f) own1 hp1 → (∀ b : Nat, hp b ≠ none → b ≠ x → own1 b = own b) → (∀ b : Nat, own b ≠ 1 → hp b ≠ none → hp1 b = hp b) → F hp1) : w_J3_addLast G hp (ad 2) (some x) F := by
  obtain ⟨ns, its, r0, r1, r2, r3, r4, r5⟩ := h.roads
  refine ll_addLast r1 (fun q hp1 hq g1 g2 => ?_)
  have hxn : x ∉ ns := fun z => by rw [r2 x z] at ho; cases ho
  have hx2 : x ≠ ad 2 := fun z => by rw [z, r0] at ho; cases ho
  have hxq : x ≠ q := ne_new hx hq
  have hk : ∀ b : Nat, own b ≠ 1 → hp b ≠ none → hp1 b = hp b := fun b b1 b2 => g2 b (fun z => b1 (by rw [z]; exact r0)) (fun z => b2 (by rw [z]; exact hq)) (fun z => b1 (r2 b z))
  have ho1 : ∀ b : Nat, hp b ≠ none → b ≠ x → (fun b => if b = x ∨ b = q then 1 else own b) b = own b := fun b b1 b2 => if_neg (fun z => z.elim b2 (fun z => b1 (by rw [z]; exact hq)))
  have hlen : (M 2 1).toNat = ns.length := by omega
  refine hF (fun b => if b = x ∨ b = q then 1 else own b) hp1 (h.setRoads (ns := ns ++ [q]) (its := its ++ [x]) ⟨?_, g1, fun a ha => ?_, ?_, ?_, fun i a hi => ?_⟩ (fun b b1 b2 b3 => ⟨ho1 b b2 (fun z => ?_), hk b b1 b2⟩) (fun b hb => ?_) (fun c c1 c2 => ?_)) ho1 hk
  · show (if ad 2 = x ∨ ad 2 = q then 1 else own (ad 2)) = 1
    rw [r0]; exact ite_self _
  · show (if a = x ∨ a = q then 1 else own a) = 1
    rcases List.mem_append.mp ha with ha | ha
    · rw [r2 a ha]; exact ite_self _
    · exact if_pos (Or.inr (List.mem_singleton.mp ha))
  · refine List.nodup_append.mpr ⟨r3, by simp, fun u hu v hv => ?_⟩
    rw [List.mem_singleton.mp hv]
    intro z
    subst z
    obtain ⟨i, hi⟩ := List.getElem?_of_mem hu
    rw [(r5 i u hi).1] at ho
    cases ho
  · show (if (2 : Nat) = 2 then (if (1 : Nat) = 1 then M 2 1 + 1 else M 2 1) else _) = _
    rw [if_pos rfl, if_pos rfl, r4, List.length_append]
    rfl
  · by_cases e : i < its.length
    · rw [List.getElem?_append_left e] at hi
      obtain ⟨o1, o2⟩ := r5 i a hi
      refine ⟨?_, ?_⟩
      · show (if a = x ∨ a = q then 1 else own a) = 1
        rw [o1]; exact ite_self _
      · rw [g2 a (ne_cell o2 (r1.1.choose_spec) (fun z => by cases z)) (ne_new o2 hq) (fun z => ?_), o2]
        · congr 1
          refine roadE_ext (fun k hk => ?_)
          have : i < ns.length := by rw [← r1.2.1]; exact e
          show _ = if 500 = 2 then _ else if 500 = 500 then (if 5 * (M 2 1).toNat ≤ 5 * i + k ∧ 5 * i + k < 5 * (M 2 1).toNat + 5 then _ else M 500 (5 * i + k)) else _
          rw [if_neg (by decide), if_pos rfl, if_neg (by omega)]
        · obtain ⟨j, hj⟩ := List.getElem?_of_mem z
          rw [r1.n3 hj] at o2
          cases o2
    · rw [List.getElem?_append_right (by omega)] at hi
      have hz := gi_lt hi
      simp at hz
      have e1 : i = its.length := by omega
      subst e1
      rw [Nat.sub_self] at hi
      have : x = a := Option.some.inj hi
      subst this
      refine ⟨if_pos (Or.inl rfl), ?_⟩
      rw [g2 x hx2 hxq hxn, hx]
      congr 1
      refine roadE_ext (fun k hk => ?_)
      show _ = if 500 = 2 then _ else if 500 = 500 then (if 5 * (M 2 1).toNat ≤ 5 * its.length + k ∧ 5 * its.length + k < 5 * (M 2 1).toNat + 5 then f (5 * its.length + k - 5 * (M 2 1).toNat) else _) else _
      rw [if_neg (by decide), if_pos rfl, hlen, r1.2.1, if_pos (by omega)]
      congr 1
      omega
  · subst z
    rcases b3 with b3 | ⟨c, hc, b3⟩
    · exact b3 ho
    · exact hr c hc b3
  · have hb2 : hp b = none := by
      refine Classical.byContradiction fun z => ?_
      by_cases o1 : own b = 1
      · by_cases e : b = ad 2
        · obtain ⟨mc, q0⟩ := g1.1; rw [e, q0] at hb; cases hb
        · by_cases e2 : b ∈ ns
          · exact g1.nn (List.mem_append_left _ e2) hb
          · rw [g2 b e (fun y => z (by rw [y]; exact hq)) e2] at hb; exact z hb
      · rw [hk b o1 z] at hb; exact z hb
    show (if b = x ∨ b = q then 1 else own b) = 0
    rw [if_neg ?_]
    · exact h.2.2.1 b hb2
    · rintro (z | z)
      · rw [z, hx] at hb2; cases hb2
      · exact g1.nn (List.mem_append_right _ (List.mem_singleton.mpr z)) hb
  · funext j
    unfold pAdd
    rw [if_neg c1, if_neg c2]
theorem XO.get {i : Nat} {F : Option Nat → HP → Prop} (h : XO G ad M own hp) (hi : (i : Int) < M 2 1) (hb : M 2 1 ≤ 1000) (hF : ∀ a : Nat, own a = 1 → hp a = some (roadE (M 500) i) → F (some a) hp) : w_J3_get G hp (ad 2) i F := by
  obtain ⟨ns, its, r0, r1, r2, r3, r4, r5⟩ := h.roads
  refine ll_get r1 (by omega) (by omega) ?_
  have hl : i < its.length := by rw [r1.2.1]; omega
  have he : its[i]? = some its[i] := List.getElem?_eq_getElem hl
  rw [he]
  exact hF _ (r5 i _ he).1 (r5 i _ he).2
theorem XO.alterRoad {i : Nat} {lo mo co : Int} {F : Option Nat → HP → Prop} (h : XO G ad M own hp) (hi : (i : Int) < M 2 1) (hb : M 2 1 ≤ 1000) (hF : ∀ (a : Nat) (hp1 : HP), XO G ad (pBound M i lo mo co) own hp1 → (∀ b : Nat, own b ≠ 1 → hp1 b = hp b) → F (some a) hp1) : w_J3_get G hp (ad 2) i (fun r9 hp8 => hCast hp8 7 r9 (hNn r9 fun b10 => hIs hp8 b10 7 (w_X7_bounded G hp8 b10 lo mo co F))) := by
  obtain ⟨ns, its, r0, r1, r2, r3, r4, r5⟩ := h.roads
  refine ll_get r1 (by omega) (by omega) ?_
  have hl : i < its.length := by rw [r1.2.1]; omega
  have he : its[i]? = some its[i] := List.getElem?_eq_getElem hl
  obtain ⟨o1, o2⟩ := r5 i _ he
  rw [he]
  refine ⟨fun b hb => (by cases hb; exact ⟨_, o2⟩), its[i], rfl, ⟨_, o2⟩, _, o2, Nat.le_of_ble_eq_true rfl, ?_⟩
  refine ⟨_, hup_s, Nat.le_of_ble_eq_true rfl, ?_⟩
  rw [hup_hup]
  refine ⟨_, hup_s, Nat.le_of_ble_eq_true rfl, ?_⟩
  rw [hup_hup]
  have hk : ∀ b : Nat, own b ≠ 1 → hup hp its[i] (.inr (7, (([vI (M 500 (5 * i)), vI (M 500 (5 * i + 1)), vI (M 500 (5 * i + 2)), vI (M 500 (5 * i + 3)), vL (M 500 (5 * i + 4))].set 2 (vI lo)).set 3 (vI mo)).set 4 (vL co))) b = hp b := fun b hb => hup_n (fun z => hb (by rw [z]; exact o1))
  refine hF _ _ (h.setRoads (ns := ns) (its := its) ⟨r0, r1.fr (hup_n ?_) (fun n hn => hup_n ?_), r2, r3, r4, fun j a hj => ?_⟩ (fun b b1 b2 _ => ⟨rfl, hk b b1⟩) (fun b hb => h.2.2.1 b (Classical.byContradiction fun z => hup_nn z hb)) (fun c c1 c2 => ?_)) hk
  · exact ne_cell r1.1.choose_spec o2 (fun z => by cases z)
  · obtain ⟨j, hj⟩ := List.getElem?_of_mem hn
    exact ne_cell (r1.n3 hj) o2 (fun z => by cases z)
  · refine ⟨(r5 j a hj).1, ?_⟩
    by_cases e : j = i
    · subst e
      rw [he] at hj
      cases hj
      rw [hup_s]
      show some (Sum.inr (7, [vI (M 500 (5 * j)), vI (M 500 (5 * j + 1)), vI lo, vI mo, vL co])) = some (roadE (pBound M j lo mo co 500) j)
      have g : ∀ k : Nat, k < 2 → pBound M j lo mo co 500 (5 * j + k) = M 500 (5 * j + k) := fun k hk => by
        show (if 500 = 500 then (if 5 * j + k = 5 * j + 2 then lo else if 5 * j + k = 5 * j + 3 then mo else if 5 * j + k = 5 * j + 4 then co else M 500 (5 * j + k)) else _) = _
        rw [if_pos rfl, if_neg (by omega), if_neg (by omega), if_neg (by omega)]
      have g0 := g 0 (by decide)
      rw [Nat.add_zero] at g0
      have g2 : pBound M j lo mo co 500 (5 * j + 2) = lo := by
        show (if 500 = 500 then (if 5 * j + 2 = 5 * j + 2 then lo else _) else _) = _
        rw [if_pos rfl, if_pos rfl]
      have g3 : pBound M j lo mo co 500 (5 * j + 3) = mo := by
        show (if 500 = 500 then (if 5 * j + 3 = 5 * j + 2 then lo else if 5 * j + 3 = 5 * j + 3 then mo else _) else _) = _
        rw [if_pos rfl, if_neg (by omega), if_pos rfl]
      have g4 : pBound M j lo mo co 500 (5 * j + 4) = co := by
        show (if 500 = 500 then (if 5 * j + 4 = 5 * j + 2 then lo else if 5 * j + 4 = 5 * j + 3 then mo else if 5 * j + 4 = 5 * j + 4 then co else _) else _) = _
        rw [if_pos rfl, if_neg (by omega), if_neg (by omega), if_pos rfl]
      unfold roadE
      rw [g0, g 1 (by decide), g2, g3, g4]
    · have hne : a ≠ its[i] := fun z => e (nd_ix r3 hj (by rw [z]; exact he))
      rw [hup_n hne, (r5 j a hj).2]
      congr 1
      refine roadE_ext (fun k hk => ?_)
      show _ = (if 500 = 500 then (if 5 * j + k = 5 * i + 2 then lo else if 5 * j + k = 5 * i + 3 then mo else if 5 * j + k = 5 * i + 4 then co else M 500 (5 * j + k)) else _)
      rw [if_pos rfl, if_neg (by omega), if_neg (by omega), if_neg (by omega)]
  · funext j
    unfold pBound
    rw [if_neg c2]
/-- the shot's loop -/
def SI (G : GG) (M : RM) (hp : HP) (a sa ra q j : Nat) (hp1 : HP) (a2 : Nat) (mc : Int) (ns : List Nat) : Prop :=
  (∀ b : Nat, hp b ≠ none → hp1 b = hp b) ∧ hp1 a = some (.inr (6, [.ref sa, .ref ra, vI (M 40 0), vI j])) ∧ hp1 sa = some (.inl (G.2.1 0, (8, .inl (fun j => Int32.ofInt (if j < 8 then M 1 j else 0))))) ∧ (∃ lr : Option Nat, hp1 q = some (itE mc a2 lr ns[j]? j)) ∧ ∃ g : Nat → Option Nat, hp1 ra = some (.inl (G.2.1 6, (24, .inr (.inr (.inr (.inr g)))))) ∧ ∀ i : Nat, i < j → ∃ r : Nat, g i = some r ∧ hp r = none ∧ hp1 r = some (roadE (M 500) i)
theorem shot_loop {a sa ra q a2 : Nat} {mc : Int} {ns its : List Nat} {k : HP → Prop} (hl : LLh hp a2 ns its) (h0 : hp a2 = some (lhE mc ns)) (hr : ∀ i x : Nat, its[i]? = some x → hp x = some (roadE (M 500) i)) (hn : ns.length ≤ 24) (na : hp a = none) (nsa : hp sa = none) (nra : hp ra = none) (nq : hp q = none) (hk : ∀ hp1 : HP, SI G M hp a sa ra q ns.length hp1 a2 mc ns → k hp1) : ∀ (d N j : Nat) (hp1 : HP), j + d = ns.length → d < N → SI G M hp a sa ra q j hp1 a2 mc ns → w_X0_shot_L39 G a (some q) k N hp1 := by
  intro d
  induction d with
  | zero =>
    intro N j hp1 e1 e2 hS
    obtain ⟨N1, rfl⟩ : ∃ N1, N = N1 + 1 := ⟨N - 1, by omega⟩
    have ej : j = ns.length := by omega
    subst ej
    have hS2 := hS
    obtain ⟨s1, s2, s3, ⟨lr, s4⟩, s5⟩ := hS
    refine ⟨q, rfl, ⟨_, s4⟩, ll_hasNext (by omega) (Nat.le_refl _) ((s1 a2 (fun z => by rw [z] at h0; cases h0)).trans h0) s4 ?_⟩
    rw [if_neg (Nat.lt_irrefl _)]
    exact ⟨fun _ => hk _ hS2, fun z => absurd rfl z⟩
  | succ d ih =>
    intro N j hp1 e1 e2 hS
    obtain ⟨N1, rfl⟩ : ∃ N1, N = N1 + 1 := ⟨N - 1, by omega⟩
    have hj : j < ns.length := by omega
    obtain ⟨s1, s2, s3, ⟨lr, s4⟩, g, s5, s6⟩ := hS
    have h01 : hp1 a2 = some (lhE mc ns) := (s1 a2 (fun z => by rw [z] at h0; cases h0)).trans h0
    have hl1 : LLh hp1 a2 ns its := hl.fr (s1 _ (fun z => by rw [z] at h0; cases h0)) (fun n hn => s1 n (hl.nn hn))
    refine ⟨q, rfl, ⟨_, s4⟩, ll_hasNext (by omega) (Nat.le_of_lt hj) h01 s4 ?_⟩
    rw [if_pos hj]
    refine ⟨fun z => absurd z (by decide), fun _ => ⟨q, rfl, ⟨_, s4⟩, ll_next hl1 (by omega) hj h01 s4 ?_⟩⟩
    have hi : j < its.length := by rw [hl.2.1]; exact hj
    have he : its[j]? = some its[j] := List.getElem?_eq_getElem hi
    have hx := hr j _ he
    have hx1 : hp1 its[j] = some (roadE (M 500) j) := (s1 _ (fun z => by rw [z] at hx; cases hx)).trans hx
    rw [he]
    have naq : a ≠ q := ne_cell s2 s4 (fun z => by cases z)
    have nsq : sa ≠ q := ne_cell s3 s4 (fun z => by cases z)
    have nrq : ra ≠ q := ne_cell s5 s4 (fun z => by cases z)
    have nsa2 : sa ≠ a := ne_cell s3 s2 (fun z => by cases z)
    have nra2 : ra ≠ a := ne_cell s5 s2 (fun z => by cases z)
    have nsr : sa ≠ ra := ne_cell s3 s5 (fun z => absurd (Prod.mk.inj (Prod.mk.inj (Sum.inl.inj z)).2).1 (by decide))
    have nxq : its[j] ≠ q := ne_cell hx1 s4 (fun z => by cases z)
    have nxa : its[j] ≠ a := ne_cell hx1 s2 (fun z => by cases z)
    refine ⟨fun b hb => (by cases hb; exact ⟨_, (hup_n nxq).trans hx1⟩), _, some ra, (hup_n naq).trans s2, rfl, _, (j : Int), (hup_n naq).trans s2, rfl, _, (hup_n naq).trans s2, Nat.le_of_ble_eq_true rfl, its[j], rfl, ⟨_, ((hup_n nxa).trans (hup_n nxq)).trans hx1⟩, copyRoad (((hup_n nxa).trans (hup_n nxq)).trans hx1) (fun r hr0 => ?_)⟩
    have nra3 : r ≠ a := fun z => by rw [z, hup_s] at hr0; cases hr0
    have nrq2 : r ≠ q := fun z => by rw [hup_n nra3, z, hup_s] at hr0; cases hr0
    rw [hup_n nra3, hup_n nrq2] at hr0
    have nr0 : hp r = none := Classical.byContradiction fun z => by rw [s1 r z] at hr0; exact z hr0
    have nrr : ra ≠ r := ne_new s5 hr0
    have nsr2 : sa ≠ r := ne_new s3 hr0
    refine ⟨ra, rfl, 24, g, ((hup_n nrr).trans ((hup_n nra2).trans (hup_n nrq))).trans s5, by omega, ⟨by omega, by omega⟩, fun b hb => (by cases hb; exact ⟨_, hup_s⟩), ?_⟩
    refine ih N1 (j + 1) _ (by omega) (by omega) ⟨fun b hb => ?_, ?_, ?_, ⟨ns[j]?, ?_⟩, _, hup_s, fun i hij => ?_⟩
    · have b1 : b ≠ ra := fun z => hb (by rw [z]; exact nra)
      have b2 : b ≠ r := fun z => hb (by rw [z]; exact nr0)
      have b3 : b ≠ a := fun z => hb (by rw [z]; exact na)
      have b4 : b ≠ q := fun z => hb (by rw [z]; exact nq)
      rw [hup_n b1, hup_n b2, hup_n b3, hup_n b4]
      exact s1 b hb
    · rw [hup_n nra2.symm, hup_n nra3.symm, hup_s]
      rfl
    · rw [hup_n nsr, hup_n nsr2, hup_n nsa2, hup_n nsq]
      exact s3
    · rw [hup_n nrq.symm, hup_n nrq2.symm, hup_n naq.symm, hup_s]
    · by_cases e : i = j
      · subst e
        refine ⟨r, ?_, nr0, ?_⟩
        · show (if i = (i : Int).toNat then some r else g i) = some r
          exact if_pos (by omega)
        · rw [hup_n nrr.symm, hup_s]
      · obtain ⟨r1, t1, t2, t3⟩ := s6 i (by omega)
        refine ⟨r1, ?_, t2, ?_⟩
        · show (if i = (j : Int).toNat then some r else g i) = some r1
          rw [if_neg (by omega)]
          exact t1
        · rw [hup_n (ne_cell t3 s5 (fun z => by cases z)), hup_n (ne_new t3 hr0), hup_n (ne_cell t3 s2 (fun z => by cases z)), hup_n (ne_cell t3 s4 (fun z => by cases z))]
          exact t3
theorem XO.intF (h : XO G ad M own hp) {F : Int → Prop} {k : Nat} (hf : frF[k]? = some (0, 0)) (hF : F (M 40 k)) : hI hp (ad 40) 0 k F := ⟨_, M 40 k, h.this, by rw [List.getElem?_mapIdx, hf]; rfl, hF⟩
theorem XO.refF (h : XO G ad M own hp) {F : Option Nat → Prop} {k c : Nat} (hf : frF[k]? = some (2, c)) (hF : F (some (ad c))) : hR hp (ad 40) 0 k F := ⟨_, some (ad c), h.this, by rw [List.getElem?_mapIdx, hf]; rfl, hF⟩
theorem XO.isT (h : XO G ad M own hp) : ∃ fs : List Value, hp (ad 40) = some (.inr (0, fs)) := ⟨_, h.this⟩
theorem newShot {F : HP → Nat → Prop} (hF : ∀ (a sa ra : Nat) (hp1 : HP), hp a = none → hp sa = none → hp ra = none → (sa ≠ a ∧ ra ≠ a ∧ ra ≠ sa) → hp1 a = some (.inr (6, [.ref sa, .ref ra, vI 0, vI 0])) → hp1 sa = some (.inl (G.2.1 0, (8, .inl (fun _ => 0)))) → hp1 ra = some (.inl (G.2.1 6, (24, .inr (.inr (.inr (.inr (fun _ => none))))))) → (∀ b : Nat, b ≠ a → b ≠ sa → b ≠ ra → hp1 b = hp b) → F hp1 a) : hNew hp 6 df_X6 fun hp1 q2 => w_X6_init G hp1 q2 (fun hp3 => F hp3 q2) := by
  intro a na
  intro sa nsa0
  have nsa1 : sa ≠ a := fun z => by rw [z, hup_s] at nsa0; cases nsa0
  have nsa : hp sa = none := by rw [hup_n nsa1] at nsa0; exact nsa0
  refine ⟨_, (hup_n nsa1.symm).trans hup_s, Nat.le_of_ble_eq_true rfl, ?_⟩
  intro ra nra0
  have nra1 : ra ≠ a := fun z => by rw [z, hup_s] at nra0; cases nra0
  have nra2 : ra ≠ sa := fun z => by rw [hup_n nra1, z, hup_s] at nra0; cases nra0
  have nra : hp ra = none := by rw [hup_n nra1, hup_n nra2, hup_n nra1] at nra0; exact nra0
  refine ⟨_, (hup_n nra1.symm).trans hup_s, Nat.le_of_ble_eq_true rfl, ?_⟩
  refine hF a sa ra _ na nsa nra ⟨nsa1, nra1, nra2⟩ ?_ ?_ ?_ (fun b b1 b2 b3 => ?_)
  · rw [hup_s]; rfl
  · rw [hup_n nsa1, hup_n nra2.symm, hup_n nsa1, hup_s]
  · rw [hup_n nra1, hup_s]
  · rw [hup_n b1, hup_n b3, hup_n b1, hup_n b2, hup_n b1]
theorem shotF_s {M : RM} {j : Nat} (h : j < 8) : shotF M (2 + j) = M 1 j := by
  unfold shotF
  rw [if_neg (by omega), if_neg (by omega), if_pos (by omega), Nat.add_sub_cancel_left]
theorem shotF_r {M : RM} (j : Nat) : shotF M (10 + j) = M 500 j := by
  unfold shotF
  rw [if_neg (by omega), if_neg (by omega), if_neg (by omega), Nat.add_sub_cancel_left]
theorem XO.shot {F : Option Nat → HP → Prop} (h : XO G ad M own hp) (hn : M 2 1 ≤ 24) (hF : ∀ (hp1 : HP) (a : Nat), (∀ b : Nat, hp b ≠ none → hp1 b = hp b) → (∀ t : Nat, shotE G (fun b => if hp b = none then t else 0) t hp1 a (shotF M)) → F (some a) hp1) : w_X0_shot G hp (ad 40) F := by
  obtain ⟨ns, its, r0, r1, r2, r3, r4, r5⟩ := h.roads
  refine newShot (F := fun hp3 q2 => _) (fun a sa ra hp1 na nsa nra nn ea es er fr => ?_)
  obtain ⟨n1, n2, n3⟩ := nn
  have hx1 : ∀ b : Nat, hp b ≠ none → hp1 b = hp b := fun b hb => fr b (fun z => hb (by rw [z]; exact na)) (fun z => hb (by rw [z]; exact nsa)) (fun z => hb (by rw [z]; exact nra))
  refine (h.ext hx1).intF (k := 0) rfl ?_
  refine ⟨_, ea, Nat.le_of_ble_eq_true rfl, ?_⟩
  rw [show ([Value.ref sa, Value.ref ra, vI 0, vI 0].set 2 (vI (M 40 0))) = [Value.ref sa, Value.ref ra, vI (M 40 0), vI 0] from rfl]
  generalize hq2 : hup hp1 a (.inr (6, [Value.ref sa, Value.ref ra, vI (M 40 0), vI 0])) = hp2
  have ea2 : hp2 a = some (.inr (6, [Value.ref sa, Value.ref ra, vI (M 40 0), vI 0])) := by rw [← hq2]; exact hup_s
  have fr2 : ∀ b : Nat, b ≠ a → hp2 b = hp1 b := fun b hb => by rw [← hq2]; exact hup_n hb
  have hx2 : ∀ b : Nat, hp b ≠ none → hp2 b = hp b := fun b hb => (fr2 b (fun z => hb (by rw [z]; exact na))).trans (hx1 b hb)
  have X2 := h.ext hx2
  refine X2.refF (k := 1) rfl ?_
  refine ⟨_, some sa, ea2, rfl, sa, rfl, ad 1, rfl, ?_⟩
  refine ⟨8, 8, (fun j => Int32.ofInt (M 1 j)), (fun _ => 0), X2.1.1 1 _ rfl, (fr2 sa n1).trans es, ⟨by omega, by omega, by omega, by omega, by omega, by omega, by omega⟩, ?_⟩
  generalize hq3 : hup hp2 sa _ = hp3
  have es3 : hp3 sa = some (.inl (G.2.1 0, (8, .inl (fun j => Int32.ofInt (if j < 8 then M 1 j else 0))))) := by
    rw [← hq3, hup_s]
    congr 5
    funext j
    unfold va_cpy
    by_cases g : j < 8
    · rw [if_pos ⟨Nat.zero_le _, g⟩, if_pos g]
      congr 2
      show (0 : Int).toNat + (j - (0 : Int).toNat) = j
      omega
    · rw [if_neg (fun z => g z.2), if_neg g]
      rfl
  have fr3 : ∀ b : Nat, b ≠ sa → hp3 b = hp2 b := fun b hb => by rw [← hq3]; exact hup_n hb
  have hx3 : ∀ b : Nat, hp b ≠ none → hp3 b = hp b := fun b hb => (fr3 b (fun z => hb (by rw [z]; exact nsa))).trans (hx2 b hb)
  have X3 := h.ext hx3
  refine X3.refF (k := 2) rfl ?_
  refine ⟨ad 2, rfl, ?_⟩
  obtain ⟨mc, hmc⟩ := r1.1
  have hmc2 : hp (ad 2) = some (lhE mc ns) := hmc
  have h2 : hp (ad 2) ≠ none := fun z => by rw [z] at hmc2; cases hmc2
  have hl1 : LLh hp3 (ad 2) ns its := r1.fr (hx3 _ h2) (fun n hn => hx3 n (r1.nn hn))
  refine ⟨⟨_, (hx3 _ h2).trans hmc2⟩, ?_⟩
  refine ll_iterator hl1 (by omega) ((hx3 _ h2).trans hmc2) (fun q hq => ?_)
  have nq : hp q = none := Classical.byContradiction fun z => by rw [hx3 q z] at hq; exact z hq
  have ea3 : hp3 a = some (.inr (6, [Value.ref sa, Value.ref ra, vI (M 40 0), vI 0])) := (fr3 a n1.symm).trans ea2
  have er3 : hp3 ra = some (.inl (G.2.1 6, (24, .inr (.inr (.inr (.inr (fun _ => none))))))) := (fr3 ra n3).trans ((fr2 ra n2).trans er)
  have qa : a ≠ q := ne_new ea3 hq
  have qs : sa ≠ q := ne_new es3 hq
  have qr : ra ≠ q := ne_new er3 hq
  refine shot_loop (G := G) (M := M) (hp := hp) (a := a) (sa := sa) (ra := ra) (q := q) (a2 := ad 2) (mc := mc) (ns := ns) (its := its) r1 hmc2 (fun i x hi => (r5 i x hi).2) (by omega) na nsa nra nq (fun hp4 hS => ?_) ns.length 25 0 _ (by omega) (by omega) ⟨fun b hb => ?_, (hup_n qa).trans ea3, (hup_n qs).trans es3, ⟨none, hup_s⟩, fun _ => none, (hup_n qr).trans er3, fun i hi => absurd hi (Nat.not_lt_zero _)⟩
  · obtain ⟨s1, s2, s3, s4, g, s5, s6⟩ := hS
    refine hF hp4 a s1 (fun t => ⟨if_pos na, sa, ra, g, if_pos nsa, if_pos nra, s2.trans ?_, ⟨_, s3, fun j hj => ?_⟩, s5, ?_, fun i hi => ?_⟩)
    · show some (Sum.inr (6, [Value.ref sa, Value.ref ra, vI (M 40 0), vI (ns.length : Int)])) = some (Sum.inr (6, [Value.ref sa, Value.ref ra, vI (M 40 0), vI (M 2 1)]))
      rw [r4]
    · rw [shotF_s hj]
      exact if_pos hj
    · show 0 ≤ M 2 1 ∧ M 2 1 ≤ 24
      omega
    · have hi2 : (i : Int) < M 2 1 := hi
      obtain ⟨r, q1, q2, q3⟩ := s6 i (by omega)
      refine ⟨r, q1, if_pos q2, q3.trans ?_⟩
      congr 1
      refine roadE_ext (fun k hk => ?_)
      exact (shotF_r _).symm
  · rw [hup_n (fun z => hb (by rw [z]; exact nq))]
    exact hx3 b hb
end XRD
