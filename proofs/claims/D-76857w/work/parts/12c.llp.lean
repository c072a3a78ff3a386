/-! 14 LLP: what the list's methods do to its picture LLh -/
set_option maxRecDepth 100000
theorem hup_s {hp : HP} {a : Nat} {e : va_E} : hup hp a e a = some e := by unfold hup; rw [if_pos rfl]
theorem hup_n {hp : HP} {a b : Nat} {e : va_E} (h : b ≠ a) : hup hp a e b = hp b := by unfold hup; rw [if_neg h]
theorem hup_hup {hp : HP} {a : Nat} {e e1 : va_E} : hup (hup hp a e) a e1 = hup hp a e1 := by
  funext b
  by_cases g : b = a
  · subst g; rw [hup_s, hup_s]
  · rw [hup_n g, hup_n g, hup_n g]
theorem hup_nn {hp : HP} {a b : Nat} {e : va_E} (h : hp b ≠ none) : hup hp a e b ≠ none := by
  by_cases g : b = a
  · subst g; rw [hup_s]; exact fun z => by cases z
  · rw [hup_n g]; exact h
theorem vI_c {x y : Int} (h : x = y) : vI x = vI y := by rw [h]
theorem gl_some {α : Type} {l : List α} {n : α} (h : l.getLast? = some n) : l ≠ [] ∧ l[l.length - 1]? = some n := by
  rw [List.getLast?_eq_getElem?] at h
  refine ⟨fun z => ?_, h⟩
  subst z
  cases h
theorem gi_lt {α : Type} {l : List α} {i : Nat} {n : α} (h : l[i]? = some n) : i < l.length := (List.getElem?_eq_some_iff.mp h).1
theorem nd_ix {l : List Nat} (h : l.Nodup) {i j n : Nat} (hi : l[i]? = some n) (hj : l[j]? = some n) : i = j := by
  obtain ⟨a, b⟩ := List.getElem?_eq_some_iff.mp hi
  obtain ⟨c, d⟩ := List.getElem?_eq_some_iff.mp hj
  rcases Nat.lt_trichotomy i j with g | g | g
  · exact absurd (b.trans d.symm) (List.pairwise_iff_getElem.mp h i j a c g)
  · exact g
  · exact absurd (d.trans b.symm) (List.pairwise_iff_getElem.mp h j i c a g)
section LLP
variable {G : GG} {hp : HP} {a : Nat} {ns its : List Nat}
theorem LLh.ne (h : LLh hp a ns its) {n : Nat} (hn : n ∈ ns) : n ≠ a := by
  obtain ⟨⟨mc, h0⟩, h1, h2, h3⟩ := h
  obtain ⟨i, hi⟩ := List.getElem?_of_mem hn
  intro e
  subst e
  rw [h3 i n hi] at h0
  cases h0
theorem LLh.nn (h : LLh hp a ns its) {n : Nat} (hn : n ∈ ns) : hp n ≠ none := by
  obtain ⟨⟨mc, h0⟩, h1, h2, h3⟩ := h
  obtain ⟨i, hi⟩ := List.getElem?_of_mem hn
  rw [h3 i n hi]
  exact fun z => by cases z
theorem LLh.fr {hp1 : HP} (h : LLh hp a ns its) (h1 : hp1 a = hp a) (h2 : ∀ n ∈ ns, hp1 n = hp n) : LLh hp1 a ns its := by
  obtain ⟨⟨mc, g0⟩, g1, g2, g3⟩ := h
  exact ⟨⟨mc, h1.trans g0⟩, g1, g2, fun i n hi => (h2 n (List.mem_of_getElem? hi)).trans (g3 i n hi)⟩
theorem ll_addLast {x : Nat} {Q : HP → Prop} (h : LLh hp a ns its) (k : ∀ (q : Nat) (hp1 : HP), hp q = none → LLh hp1 a (ns ++ [q]) (its ++ [x]) → (∀ b : Nat, b ≠ a → b ≠ q → b ∉ ns → hp1 b = hp b) → Q hp1) : w_J3_addLast G hp a (some x) Q := by
  have hh := h
  obtain ⟨⟨mc, h0⟩, h1, h2, h3⟩ := h
  refine ⟨⟨_, h0⟩, _, ns.getLast?, h0, rfl, fun q hq => ?_⟩
  have hqa : q ≠ a := fun z => by rw [z, h0] at hq; cases hq
  have hqn : q ∉ ns := fun z => hh.nn z hq
  refine ⟨_, hup_s, Nat.le_of_ble_eq_true rfl, ?_⟩
  rw [hup_hup]
  refine ⟨_, hup_s, Nat.le_of_ble_eq_true rfl, ?_⟩
  rw [hup_hup]
  refine ⟨_, hup_s, Nat.le_of_ble_eq_true rfl, ?_⟩
  rw [hup_hup]
  rw [show ((df_J36.set 0 (va_rf (some x))).set 1 (va_rf none)).set 2 (va_rf ns.getLast?) = [va_rf (some x), va_rf none, va_rf ns.getLast?] from rfl]
  refine ⟨_, (hup_n hqa.symm).trans h0, Nat.le_of_ble_eq_true rfl, ?_⟩
  show hIf _ _ _
  refine ⟨fun hr => ?_, fun hr => ?_⟩
  · cases hl : ns.getLast? with
    | none => exact absurd hl hr
    | some t =>
      obtain ⟨hne, ht⟩ := gl_some hl
      have htn : t ∈ ns := List.mem_of_getElem? ht
      have hta : t ≠ a := hh.ne htn
      have htq : t ≠ q := fun z => hqn (z ▸ htn)
      refine ⟨t, rfl, ?_⟩
      refine ⟨_, ((hup_n hta).trans (hup_n htq)).trans (h3 _ t ht), by simp, ?_⟩
      refine ⟨_, _, (hup_n hta.symm).trans hup_s, rfl, ?_⟩
      refine ⟨_, (hup_n hta.symm).trans hup_s, by simp, ?_⟩
      refine ⟨_, _, hup_s, rfl, ?_⟩
      refine ⟨_, hup_s, by simp, ?_⟩
      rw [hup_hup]
      refine k q _ hq ⟨⟨mc + 1, ?_⟩, by simp [h1], ?_, fun i n hi => ?_⟩ (fun b b1 b2 b3 => ?_)
      · rw [hup_s]
        show some (Sum.inr (12, [vI (mc + 1), vI ((ns.length : Int) + 1), va_rf ns.head?, Value.ref q])) = _
        rw [List.length_append, List.head?_append, List.getLast?_append]
        cases ns with
        | nil => exact absurd rfl hne
        | cons u v => rfl
      · exact List.nodup_append.mpr ⟨h2, by simp, fun u hu v hv => by rw [List.mem_singleton.mp hv]; exact fun z => hqn (z ▸ hu)⟩
      · by_cases g : i < ns.length
        · rw [List.getElem?_append_left g] at hi
          have hna : n ≠ a := hh.ne (List.mem_of_getElem? hi)
          have hnq : n ≠ q := fun z => hqn (z ▸ List.mem_of_getElem? hi)
          rw [hup_n hna]
          rw [List.getElem?_append_left (by omega : i < its.length)]
          by_cases e : n = t
          · subst e
            have ei : i = ns.length - 1 := nd_ix h2 hi ht
            rw [hup_s]
            rw [List.getElem?_append_right (by omega : ns.length ≤ i + 1), show i + 1 - ns.length = 0 by omega]
            subst ei
            show some (Sum.inr (27, [va_rf its[ns.length - 1]?, Value.ref q, va_rf (if ns.length - 1 = 0 then none else ns[ns.length - 1 - 1]?)])) = _
            rw [List.getElem?_append_left (by omega)]
            rfl
          · rw [hup_n e, hup_n hna, hup_n hnq, h3 i n hi]
            have e2 : i + 1 < ns.length := by
              have : i ≠ ns.length - 1 := fun z => e (by rw [z, ht] at hi; exact (Option.some.inj hi).symm)
              omega
            rw [List.getElem?_append_left e2, List.getElem?_append_left (by omega : i - 1 < ns.length)]
        · rw [List.getElem?_append_right (by omega)] at hi
          have ei : i = ns.length := by
            have := gi_lt hi
            simp at this
            omega
          subst ei
          rw [Nat.sub_self] at hi
          have : q = n := Option.some.inj hi
          subst this
          have hz : ns.length ≠ 0 := fun z => hne (List.eq_nil_of_length_eq_zero z)
          rw [hup_n hqa, hup_n htq.symm, hup_n hqa, hup_s, List.getElem?_append_right (Nat.le_of_eq h1), h1, Nat.sub_self, List.getElem?_eq_none (by simp : (ns ++ [q]).length ≤ ns.length + 1), if_neg hz, List.getElem?_append_left (Nat.sub_lt (Nat.pos_of_ne_zero hz) Nat.one_pos), ht]
          rfl
      · rw [hup_n b1, hup_n (fun z => b3 (by rw [z]; exact htn)), hup_n b1, hup_n b2]
  · have hn : ns = [] := by
      cases ns with
      | nil => rfl
      | cons u v => exact absurd (fun z => by simp at z) hr
    subst hn
    have hi0 : its = [] := List.eq_nil_of_length_eq_zero h1
    subst hi0
    refine ⟨_, hup_s, by simp, ?_⟩
    rw [hup_hup]
    refine ⟨_, _, hup_s, rfl, ?_⟩
    refine ⟨_, hup_s, by simp, ?_⟩
    rw [hup_hup]
    refine ⟨_, _, hup_s, rfl, ?_⟩
    refine ⟨_, hup_s, by simp, ?_⟩
    rw [hup_hup]
    refine k q _ hq ⟨⟨mc + 1, ?_⟩, rfl, by simp, fun i n hi => ?_⟩ (fun b b1 b2 b3 => ?_)
    · rw [hup_s]; rfl
    · have ei : i = 0 := by
        have := gi_lt hi
        simp at this
        exact this
      subst ei
      have : q = n := Option.some.inj hi
      subst this
      rw [hup_n hqa, hup_s]
      rfl
    · rw [hup_n b1, hup_n b2]
theorem w32_nat {x : Nat} (h : x < 2147483648) : w32 (x : Int) = x := w32_of (by omega) (by omega)
theorem LLh.n3 (h : LLh hp a ns its) {i n : Nat} (hi : ns[i]? = some n) : hp n = some (.inr (27, [va_rf its[i]?, va_rf ns[i + 1]?, va_rf (if i = 0 then none else ns[i - 1]?)])) := h.2.2.2 i n hi
theorem ll_L17 (h : LLh hp a ns its) (hb : ns.length < 2147483648) {i : Nat} (hi : i < ns.length) {k : Option Nat → Int → Prop} (hk : k ns[i]? i) : ∀ (d j : Nat), j + d = i → w_J3_node_L17 G hp i k (d + 1) ns[j]? j
  | 0, j, e => by
    have : j = i := by omega
    subst this
    exact ⟨fun _ => hk, fun g => absurd (Int.le_refl _) g⟩
  | d + 1, j, e => by
    refine ⟨fun g => absurd g (by rw [w32_nat (by omega), w32_nat (by omega)]; omega), fun _ => ?_⟩
    have hj : j < ns.length := by omega
    refine ⟨ns[j], List.getElem?_eq_getElem hj, _, ns[j + 1]?, h.n3 (List.getElem?_eq_getElem hj), rfl, ?_⟩
    exact ll_L17 h hb hi hk d (j + 1) (by omega)
theorem ll_L47 (h : LLh hp a ns its) (hb : ns.length < 2147483648) {i : Nat} {k : Option Nat → Int → Prop} (hk : k ns[i]? i) : ∀ (d j : Nat), i + d = j → j < ns.length → w_J3_node_L47 G hp i k (d + 1) ns[j]? j
  | 0, j, e, _ => by
    have : j = i := by omega
    subst this
    exact ⟨fun _ => hk, fun g => absurd (Int.le_refl _) g⟩
  | d + 1, j, e, hj => by
    refine ⟨fun g => absurd g (by rw [w32_nat (by omega), w32_nat (by omega)]; omega), fun _ => ?_⟩
    refine ⟨ns[j], List.getElem?_eq_getElem hj, _, ns[j - 1]?, h.n3 (List.getElem?_eq_getElem hj), ?_, ?_⟩
    · show some (va_rf (if j = 0 then none else ns[j - 1]?)) = _
      rw [if_neg (by omega)]
    have g := ll_L47 h hb hk d (j - 1) (by omega) (by omega)
    rw [show ((j - 1 : Nat) : Int) = (j : Int) + (-1) by omega] at g
    exact g
theorem ll_node (h : LLh hp a ns its) (hb : ns.length < 2147483648) {i : Nat} (hi : i < ns.length) {Q : Option Nat → HP → Prop} (hQ : Q ns[i]? hp) : w_J3_node G hp a i Q := by
  obtain ⟨mc, h0⟩ := h.1
  refine ⟨_, (ns.length : Int), h0, rfl, fun _ => ?_, fun _ => ?_⟩
  · refine ⟨_, ns.getLast?, h0, rfl, _, (ns.length : Int), h0, rfl, ?_⟩
    refine ⟨ns.length - 1 - i + 1, ?_⟩
    have g := ll_L47 (G := G) h hb (i := i) (k := fun (r8 : Option Nat) (v9 : Int) => Q r8 hp) hQ (ns.length - 1 - i) (ns.length - 1) (by omega) (by omega)
    rw [List.getLast?_eq_getElem?]
    rw [show ((ns.length - 1 : Nat) : Int) = (ns.length : Int) - 1 by omega] at g
    exact g
  · refine ⟨_, ns.head?, h0, rfl, ?_⟩
    refine ⟨i + 1, ?_⟩
    have g := ll_L17 (G := G) h hb hi (k := fun (r8 : Option Nat) (v9 : Int) => Q r8 hp) hQ i 0 (by omega)
    rw [List.head?_eq_getElem?]
    exact g
theorem ll_get (h : LLh hp a ns its) (hb : ns.length < 2147483648) {i : Nat} (hi : i < ns.length) {Q : Option Nat → HP → Prop} (hQ : Q its[i]? hp) : w_J3_get G hp a i Q := by
  obtain ⟨mc, h0⟩ := h.1
  refine ⟨⟨_, h0⟩, ⟨_, h0⟩, ?_⟩
  refine ⟨fun g => absurd g (by rw [w32_nat (by omega)]; omega), fun _ => ⟨_, (ns.length : Int), h0, rfl, fun g => absurd g (by rw [w32_nat hb, w32_nat (Nat.lt_trans hi hb)]; omega), fun _ => ?_⟩⟩
  refine ⟨fun _ => ?_, fun g => absurd (show ¬ w32 1 = 0 by decide) g⟩
  refine ⟨⟨_, h0⟩, ll_node h hb hi ?_⟩
  refine ⟨ns[i], List.getElem?_eq_getElem hi, _, its[i]?, h.n3 (List.getElem?_eq_getElem hi), rfl, hQ⟩
theorem ll_L5 (h : LLh hp a ns its) {k : HP → Option Nat → Prop} (hk : ∀ hp1 : HP, (∀ b : Nat, b ∉ ns → hp1 b = hp b) → (∀ b : Nat, hp b ≠ none → hp1 b ≠ none) → k hp1 none) : ∀ (d j : Nat) (hp1 : HP), j + d = ns.length → (∀ i n : Nat, j ≤ i → ns[i]? = some n → hp1 n = hp n) → (∀ b : Nat, b ∉ ns → hp1 b = hp b) → (∀ b : Nat, hp b ≠ none → hp1 b ≠ none) → w_J3_clear_L5 G a k (d + 1) hp1 ns[j]?
  | 0, j, hp1, e, _, f, s => by
    rw [List.getElem?_eq_none (by omega)]
    exact ⟨fun _ => hk _ f s, fun g => absurd rfl g⟩
  | d + 1, j, hp1, e, g, f, s => by
    have hj : j < ns.length := by omega
    have hj2 : ns[j]? = some ns[j] := List.getElem?_eq_getElem hj
    rw [hj2]
    refine ⟨fun z => by simp at z, fun _ => ?_⟩
    refine ⟨ns[j], rfl, _, ns[j + 1]?, (g j _ (Nat.le_refl _) hj2).trans (h.n3 hj2), rfl, ns[j], rfl, _, (g j _ (Nat.le_refl _) hj2).trans (h.n3 hj2), Nat.le_of_ble_eq_true rfl, ns[j], rfl, _, hup_s, Nat.le_of_ble_eq_true rfl, ns[j], rfl, _, hup_s, Nat.le_of_ble_eq_true rfl, ?_⟩
    rw [hup_hup, hup_hup]
    refine ll_L5 h hk d (j + 1) _ (by omega) (fun i n hi hn => ?_) (fun b hb => ?_) (fun b hb => hup_nn (s b hb))
    · rw [hup_n (fun z => ?_)]
      · exact g i n (by omega) hn
      · subst z
        have := nd_ix h.2.2.1 hn hj2
        omega
    · rw [hup_n (fun z => hb (by rw [z]; exact List.getElem_mem _))]
      exact f b hb
theorem ll_clear (h : LLh hp a ns its) {Q : HP → Prop} (hQ : ∀ hp1 : HP, LLh hp1 a [] [] → (∀ b : Nat, b ≠ a → b ∉ ns → hp1 b = hp b) → (∀ b : Nat, hp b ≠ none → hp1 b ≠ none) → Q hp1) : w_J3_clear G hp a Q := by
  obtain ⟨mc, h0⟩ := h.1
  have ha : a ∉ ns := fun z => h.ne z rfl
  refine ⟨_, ns.head?, h0, rfl, ns.length + 1, ?_⟩
  rw [List.head?_eq_getElem?]
  refine ll_L5 h (fun hp1 f s => ?_) ns.length 0 hp (by omega) (fun _ _ _ _ => rfl) (fun _ _ => rfl) (fun _ h => h)
  refine ⟨_, (f a ha).trans h0, Nat.le_of_ble_eq_true rfl, _, hup_s, Nat.le_of_ble_eq_true rfl, ?_⟩
  rw [hup_hup]
  refine ⟨_, hup_s, Nat.le_of_ble_eq_true rfl, ?_⟩
  rw [hup_hup]
  refine ⟨_, mc, hup_s, rfl, _, hup_s, Nat.le_of_ble_eq_true rfl, ?_⟩
  rw [hup_hup]
  refine hQ _ ⟨⟨mc + 1, hup_s⟩, rfl, by simp, fun i n z => by simp at z⟩ (fun b b1 b2 => ?_) (fun b hb => hup_nn (s b hb))
  rw [hup_n b1]
  exact f b b2
/-- an iterator of the list at a -/
def itE (mc : Int) (a : Nat) (lr nx : Option Nat) (k : Nat) : va_E := .inr (21, [va_rf lr, va_rf nx, vI k, vI mc, .ref a])
def lhE (mc : Int) (ns : List Nat) : va_E := .inr (12, [vI mc, vI ns.length, va_rf ns.head?, va_rf ns.getLast?])
theorem ll_iterator {mc : Int} (h : LLh hp a ns its) (hb : ns.length < 2147483648) (h0 : hp a = some (lhE mc ns)) {Q : Option Nat → HP → Prop} (hQ : ∀ q : Nat, hp q = none → Q (some q) (hup hp q (itE mc a none ns[0]? 0))) : w_J2_iterator G hp a Q := by
  refine ⟨⟨_, h0⟩, ⟨_, h0⟩, ⟨_, h0⟩, ⟨_, h0⟩, ?_⟩
  refine ⟨fun g => absurd g (by decide), fun _ => ⟨_, (ns.length : Int), h0, rfl, fun g => absurd g (by rw [w32_nat hb, show w32 0 = 0 from rfl]; omega), fun _ => ?_⟩⟩
  refine ⟨fun _ => ?_, fun g => absurd (show ¬ w32 1 = 0 by decide) g⟩
  intro q hq
  have hqa : a ≠ q := fun z => by rw [← z, h0] at hq; cases hq
  refine ⟨_, hup_s, by decide, ?_⟩
  rw [hup_hup]
  refine ⟨_, some a, hup_s, rfl, a, rfl, _, mc, (hup_n hqa).trans h0, rfl, _, hup_s, Nat.le_of_ble_eq_true rfl, ?_⟩
  rw [hup_hup]
  have fin : ∀ r : Option Nat, r = ns[0]? → ∀ hp5 : HP, hp5 = hup hp q (.inr (21, ((df_J24.set 4 (.ref a)).set 3 (vI mc)))) → hPut hp5 q 21 1 (va_rf r) fun hp11 => hPut hp11 q 21 2 (vI 0) fun hp12 => Q (some q) hp12 := by
    intro r hr hp5 h5
    subst h5
    refine ⟨_, hup_s, Nat.le_of_ble_eq_true rfl, ?_⟩
    rw [hup_hup]
    refine ⟨_, hup_s, Nat.le_of_ble_eq_true rfl, ?_⟩
    rw [hup_hup, hr]
    exact hQ q hq
  refine ⟨a, rfl, _, (ns.length : Int), (hup_n hqa).trans h0, rfl, fun g => ?_, fun g => ?_⟩
  · refine ⟨a, rfl, ⟨_, (hup_n hqa).trans h0⟩, ?_⟩
    have hn : 0 < ns.length := by
      rcases Nat.eq_zero_or_pos ns.length with z | z
      · rw [z] at g; exact absurd rfl g
      · exact z
    refine ll_node (i := 0) (h.fr (hup_n hqa) (fun n hn => hup_n (fun z => ?_))) hb hn ?_
    · subst z; exact h.nn hn hq
    exact fin _ rfl _ rfl
  · have hn : ns.length = 0 := by
      rw [w32_nat hb, show w32 0 = 0 from rfl] at g
      omega
    exact fin none (by rw [List.getElem?_eq_none (by omega)]) _ rfl
theorem ll_hasNext {mc : Int} {q : Nat} {lr nx : Option Nat} {k : Nat} (hb : ns.length < 2147483648) (hk : k ≤ ns.length) (h0 : hp a = some (lhE mc ns)) (hi : hp q = some (itE mc a lr nx k)) {Q : Int → HP → Prop} (hQ : Q (if k < ns.length then 1 else 0) hp) : w_J24_hasNext G hp q Q := by
  refine ⟨_, (k : Int), hi, rfl, _, some a, hi, rfl, a, rfl, _, (ns.length : Int), h0, rfl, fun g => ?_, fun g => ?_⟩
  · rw [w32_nat hb, w32_nat (by omega)] at g
    rw [if_neg (by omega)] at hQ
    exact hQ
  · rw [w32_nat hb, w32_nat (by omega)] at g
    rw [if_pos (by omega)] at hQ
    exact hQ
theorem ll_next {mc : Int} {q : Nat} {lr : Option Nat} {k : Nat} (h : LLh hp a ns its) (hb : ns.length < 2147483648) (hk : k < ns.length) (h0 : hp a = some (lhE mc ns)) (hi : hp q = some (itE mc a lr ns[k]? k)) {Q : Option Nat → HP → Prop} (hQ : Q its[k]? (hup hp q (itE mc a ns[k]? ns[k + 1]? (k + 1)))) : w_J24_next G hp q Q := by
  refine ⟨⟨_, hi⟩, _, some a, hi, rfl, a, rfl, _, mc, h0, rfl, _, mc, hi, rfl, fun _ => ?_, fun g => absurd rfl g⟩
  refine ⟨⟨_, hi⟩, ll_hasNext hb (Nat.le_of_lt hk) h0 hi ?_⟩
  rw [if_pos hk]
  refine ⟨fun _ => ?_, fun g => absurd (show ¬ w32 1 = 0 by decide) g⟩
  have hk2 : ns[k]? = some ns[k] := List.getElem?_eq_getElem hk
  have hnq : ns[k] ≠ q := fun z => by
    have := h.n3 hk2
    rw [z, hi] at this
    cases this
  refine ⟨_, ns[k]?, hi, rfl, _, hi, Nat.le_of_ble_eq_true rfl, _, ns[k]?, hup_s, rfl, ns[k], hk2, _, ns[k + 1]?, (hup_n hnq).trans (h.n3 hk2), rfl, _, hup_s, Nat.le_of_ble_eq_true rfl, ?_⟩
  rw [hup_hup]
  refine ⟨_, (k : Int), hup_s, rfl, _, hup_s, Nat.le_of_ble_eq_true rfl, ?_⟩
  rw [hup_hup]
  exact ⟨_, ns[k]?, hup_s, rfl, ns[k], hk2, _, its[k]?, (hup_n hnq).trans (h.n3 hk2), rfl, hQ⟩
theorem nmem {l : List Nat} {x b : Nat} (hx : x ∈ l) (hb : b ∉ l) : b ≠ x := fun e => hb (e ▸ hx)
theorem hJn_k {v : HP → Prop} {F : (HP → Prop) → Prop} (P : HP → Prop) (h1 : ∀ x, P x → v x) (h2 : ∀ kj : HP → Prop, (∀ x, P x → kj x) → F kj) : hJn v F := h2 v h1
def nE (it nx pv : Option Nat) : va_E := .inr (27, [va_rf it, va_rf nx, va_rf pv])
def prd (ns : List Nat) (i : Nat) : Option Nat := if i = 0 then none else ns[i - 1]?
theorem ll_unlink {mc : Int} {x j : Nat} (h : LLh hp a ns its) (h0 : hp a = some (lhE mc ns)) (hx : ns[j]? = some x) {Q : Option Nat → HP → Prop} (hQ : ∀ hp1 : HP, LLh hp1 a (ns.eraseIdx j) (its.eraseIdx j) → hp1 a = some (lhE (mc + 1) (ns.eraseIdx j)) → (∀ b : Nat, b ≠ a → b ∉ ns → hp1 b = hp b) → (∀ b : Nat, hp b ≠ none → hp1 b ≠ none) → Q its[j]? hp1) : w_J3_unlink G hp a (some x) Q := by
  have hxa : x ≠ a := h.ne (List.mem_of_getElem? hx)
  have hj : j < ns.length := gi_lt hx
  have hxm : x ∈ ns := List.mem_of_getElem? hx
  refine ⟨x, rfl, _, its[j]?, h.n3 hx, rfl, x, rfl, _, ns[j + 1]?, h.n3 hx, rfl, x, rfl, _, prd ns j, h.n3 hx, rfl, ?_⟩
  refine hJn_k (fun hpA => ∃ z : Option Nat, hpA a = some (.inr (12, [vI mc, vI ns.length, va_rf (if j = 0 then ns[1]? else ns.head?), va_rf ns.getLast?])) ∧ hpA x = some (nE its[j]? ns[j + 1]? z) ∧ (∀ i n : Nat, i ≠ j → ns[i]? = some n → hpA n = some (nE its[i]? (if i + 1 = j then ns[j + 1]? else ns[i + 1]?) (prd ns i))) ∧ (∀ b : Nat, b ≠ a → b ∉ ns → hpA b = hp b) ∧ (∀ b : Nat, hp b ≠ none → hpA b ≠ none)) (fun hpA hA => ?_) (fun kj hk => ⟨fun hr => ?_, fun hr => ?_⟩)
  · obtain ⟨z, a0, a1, a2, a3, a4⟩ := hA
    refine hJn_k (fun hpB => ∃ z z1 : Option Nat, hpB a = some (.inr (12, [vI mc, vI ns.length, va_rf (if j = 0 then ns[1]? else ns.head?), va_rf (if j + 1 = ns.length then prd ns j else ns.getLast?)])) ∧ hpB x = some (nE its[j]? z z1) ∧ (∀ i n : Nat, i ≠ j → ns[i]? = some n → hpB n = some (nE its[i]? (if i + 1 = j then ns[j + 1]? else ns[i + 1]?) (if i = j + 1 then prd ns j else prd ns i))) ∧ (∀ b : Nat, b ≠ a → b ∉ ns → hpB b = hp b) ∧ (∀ b : Nat, hp b ≠ none → hpB b ≠ none)) (fun hpB hB => ?_) (fun kj hk => ⟨fun hr => ?_, fun hr => ?_⟩)
    · obtain ⟨z, z1, b0, b1, b2, b3, b4⟩ := hB
      refine ⟨x, rfl, _, b1, Nat.le_of_ble_eq_true rfl, _, (ns.length : Int), (hup_n hxa.symm).trans b0, rfl, _, (hup_n hxa.symm).trans b0, Nat.le_of_ble_eq_true rfl, _, mc, hup_s, rfl, _, hup_s, Nat.le_of_ble_eq_true rfl, ?_⟩
      rw [hup_hup]
      have hl : (ns.eraseIdx j).length = ns.length - 1 := List.length_eraseIdx_of_lt hj
      have hH : hup (hup hpB x (Sum.inr (27, [va_rf its[j]?, va_rf z, va_rf z1].set 0 (va_rf none)))) a (Sum.inr (12, ([vI mc, vI ns.length, va_rf (if j = 0 then ns[1]? else ns.head?), va_rf (if j + 1 = ns.length then prd ns j else ns.getLast?)].set 1 (vI (ns.length - 1))).set 0 (vI (mc + 1)))) a = some (lhE (mc + 1) (ns.eraseIdx j)) := by
        rw [hup_s]
        show some (Sum.inr (12, [vI (mc + 1), vI ((ns.length : Int) - 1), va_rf (if j = 0 then ns[1]? else ns.head?), va_rf (if j + 1 = ns.length then prd ns j else ns.getLast?)])) = some (Sum.inr (12, [vI (mc + 1), vI ((ns.eraseIdx j).length), va_rf (ns.eraseIdx j).head?, va_rf (ns.eraseIdx j).getLast?]))
        rw [hl, show ((ns.length - 1 : Nat) : Int) = (ns.length : Int) - 1 by omega]
        have e1 : (ns.eraseIdx j).head? = if j = 0 then ns[1]? else ns.head? := by
          rw [List.head?_eq_getElem?, List.getElem?_eraseIdx, List.head?_eq_getElem?]
          by_cases g : j = 0
          · rw [if_pos g, if_neg (by omega)]
          · rw [if_neg g, if_pos (by omega)]
        have e2 : (ns.eraseIdx j).getLast? = if j + 1 = ns.length then prd ns j else ns.getLast? := by
          rw [List.getLast?_eq_getElem?, List.getElem?_eraseIdx, List.getLast?_eq_getElem?, hl]
          by_cases g : j + 1 = ns.length
          · rw [if_pos g]
            unfold prd
            by_cases g0 : j = 0
            · rw [if_pos g0, if_neg (by omega), List.getElem?_eq_none (by omega)]
            · rw [if_neg g0, if_pos (by omega), show ns.length - 1 - 1 = j - 1 by omega]
          · rw [if_neg g, if_neg (by omega), show ns.length - 1 - 1 + 1 = ns.length - 1 by omega]
        rw [e1, e2]
      refine hQ _ ⟨⟨_, hH⟩, ?_, List.Nodup.sublist (List.eraseIdx_sublist _ _) h.2.2.1, fun i n hi => ?_⟩ hH (fun b g1 g2 => ?_) (fun b hb => hup_nn (hup_nn (b4 b hb)))
      · rw [hl, List.length_eraseIdx_of_lt (by rw [h.2.1]; exact hj), h.2.1]
      · rw [List.getElem?_eraseIdx] at hi
        rw [List.getElem?_eraseIdx, List.getElem?_eraseIdx]
        have hna : ∀ i0 : Nat, ns[i0]? = some n → n ≠ a := fun i0 h1 => h.ne (List.mem_of_getElem? h1)
        have hnx : ∀ i0 : Nat, i0 ≠ j → ns[i0]? = some n → n ≠ x := fun i0 h2 h1 e => h2 (nd_ix h.2.2.1 h1 (e ▸ hx))
        by_cases g : i < j
        · rw [if_pos g] at hi
          rw [if_pos g, hup_n (hna i hi), hup_n (hnx i (by omega) hi), b2 i n (by omega) hi, if_neg (by omega : ¬ i = j + 1)]
          show some (Sum.inr (27, [va_rf its[i]?, va_rf (if i + 1 = j then ns[j + 1]? else ns[i + 1]?), va_rf (if i = 0 then none else ns[i - 1]?)])) = _
          have e1 : (if i + 1 < j then ns[i + 1]? else ns[i + 1 + 1]?) = if i + 1 = j then ns[j + 1]? else ns[i + 1]? := by
            by_cases g1 : i + 1 = j
            · rw [if_pos g1, if_neg (by omega), g1]
            · rw [if_neg g1, if_pos (by omega)]
          have e2 : (if i = 0 then none else (ns.eraseIdx j)[i - 1]?) = if i = 0 then none else ns[i - 1]? := by
            by_cases g1 : i = 0
            · rw [if_pos g1, if_pos g1]
            · rw [if_neg g1, if_neg g1, List.getElem?_eraseIdx, if_pos (by omega)]
          rw [e1, e2]
        · rw [if_neg g] at hi
          rw [if_neg g, hup_n (hna _ hi), hup_n (hnx _ (by omega) hi), b2 (i + 1) n (by omega) hi, if_neg (by omega : ¬ i + 1 + 1 = j), if_neg (by omega : ¬ i + 1 < j)]
          have e2 : (if i = 0 then none else (ns.eraseIdx j)[i - 1]?) = if i + 1 = j + 1 then prd ns j else prd ns (i + 1) := by
            unfold prd
            by_cases g1 : i + 1 = j + 1
            · have e : i = j := by omega
              subst e
              rw [if_pos g1]
              by_cases g0 : i = 0
              · rw [if_pos g0, if_pos g0]
              · rw [if_neg g0, if_neg g0, List.getElem?_eraseIdx, if_pos (by omega)]
            · rw [if_neg g1, if_neg (by omega), if_neg (by omega), List.getElem?_eraseIdx, if_neg (by omega), show i - 1 + 1 = i + 1 - 1 by omega]
          rw [e2]
          rfl
      · rw [hup_n g1, hup_n (nmem hxm g2)]
        exact b3 b g1 g2
    · cases hc : ns[j + 1]? with
      | none => exact absurd hc hr
      | some t =>
        have hta : t ≠ a := h.ne (List.mem_of_getElem? hc)
        have htx : t ≠ x := fun e => by have := nd_ix h.2.2.1 hc (e ▸ hx); omega
        have hj1 : j + 1 < ns.length := gi_lt hc
        refine ⟨t, rfl, _, a2 (j + 1) t (by omega) hc, Nat.le_of_ble_eq_true rfl, x, rfl, _, (hup_n htx.symm).trans a1, Nat.le_of_ble_eq_true rfl, ?_⟩
        refine hk _ ⟨none, z, ?_, hup_s, fun i n g1 g2 => ?_, fun b g1 g2 => ?_, fun b hb => by first | exact hup_nn (hup_nn (a4 b hb)) | exact hup_nn (a4 b hb) | exact hup_nn (hup_nn hb) | exact hup_nn hb⟩
        · rw [hup_n hxa.symm, hup_n hta.symm, a0, if_neg (by omega : ¬ j + 1 = ns.length)]
        · have hnx : n ≠ x := fun e => g1 (nd_ix h.2.2.1 g2 (e ▸ hx))
          rw [hup_n hnx]
          by_cases g3 : i = j + 1
          · have e3 : n = t := by
              rw [g3, hc] at g2
              exact (Option.some.inj g2).symm
            rw [e3, hup_s, g3, if_pos rfl]
            rfl
          · rw [hup_n (show n ≠ t from fun e => g3 (nd_ix h.2.2.1 g2 (e ▸ hc))), a2 i n g1 g2, if_neg g3]
        · rw [hup_n (nmem hxm g2), hup_n (nmem (List.mem_of_getElem? hc) g2)]
          exact a3 b g1 g2
    · have hc : ns[j + 1]? = none := Classical.byContradiction hr
      have hj1 : j + 1 = ns.length := by
        have := List.getElem?_eq_none_iff.mp hc
        omega
      refine ⟨_, a0, Nat.le_of_ble_eq_true rfl, ?_⟩
      refine hk _ ⟨_, z, ?_, (hup_n hxa).trans a1, fun i n g1 g2 => ?_, fun b g1 g2 => ?_, fun b hb => by first | exact hup_nn (hup_nn (a4 b hb)) | exact hup_nn (a4 b hb) | exact hup_nn (hup_nn hb) | exact hup_nn hb⟩
      · rw [hup_s, if_pos hj1]
        rfl
      · rw [hup_n (h.ne (List.mem_of_getElem? g2)), a2 i n g1 g2, if_neg (by have := gi_lt g2; omega : ¬ i = j + 1)]
      · rw [hup_n g1]
        exact a3 b g1 g2
  · cases hc : prd ns j with
    | none => exact absurd hc hr
    | some t =>
      have hj0 : j ≠ 0 := fun e => by unfold prd at hc; rw [if_pos e] at hc; cases hc
      have hc2 : ns[j - 1]? = some t := by unfold prd at hc; rw [if_neg hj0] at hc; exact hc
      have hta : t ≠ a := h.ne (List.mem_of_getElem? hc2)
      have htx : t ≠ x := fun e => by have := nd_ix h.2.2.1 hc2 (e ▸ hx); omega
      refine ⟨t, rfl, _, h.n3 hc2, Nat.le_of_ble_eq_true rfl, x, rfl, _, (hup_n htx.symm).trans (h.n3 hx), Nat.le_of_ble_eq_true rfl, ?_⟩
      refine hk _ ⟨none, ?_, hup_s, fun i n g1 g2 => ?_, fun b g1 g2 => ?_, fun b hb => by first | exact hup_nn (hup_nn (a4 b hb)) | exact hup_nn (a4 b hb) | exact hup_nn (hup_nn hb) | exact hup_nn hb⟩
      · rw [hup_n hxa.symm, hup_n hta.symm, if_neg hj0]
        exact h0
      · have hnx : n ≠ x := fun e => g1 (nd_ix h.2.2.1 g2 (e ▸ hx))
        rw [hup_n hnx]
        by_cases g3 : i + 1 = j
        · have e3 : n = t := by
            rw [show i = j - 1 by omega, hc2] at g2
            exact (Option.some.inj g2).symm
          have e4 : i = j - 1 := by omega
          subst e4
          rw [e3, hup_s, if_pos g3]
          rfl
        · rw [hup_n (fun e => g3 (by have := nd_ix h.2.2.1 g2 (e ▸ hc2); omega)), h.n3 g2, if_neg g3]
          rfl
      · rw [hup_n (nmem hxm g2), hup_n (nmem (List.mem_of_getElem? hc2) g2)]
  · have hc : prd ns j = none := Classical.byContradiction hr
    have hj0 : j = 0 := Classical.byContradiction fun e => by
      unfold prd at hc
      rw [if_neg e, List.getElem?_eq_getElem (by omega)] at hc
      cases hc
    refine ⟨_, h0, Nat.le_of_ble_eq_true rfl, ?_⟩
    refine hk _ ⟨_, ?_, (hup_n hxa).trans (h.n3 hx), fun i n g1 g2 => ?_, fun b g1 g2 => ?_, fun b hb => by first | exact hup_nn (hup_nn (a4 b hb)) | exact hup_nn (a4 b hb) | exact hup_nn (hup_nn hb) | exact hup_nn hb⟩
    · rw [hup_s, if_pos hj0, hj0]
      rfl
    · rw [hup_n (h.ne (List.mem_of_getElem? g2)), h.n3 g2, if_neg (by omega : ¬ i + 1 = j)]
      rfl
    · rw [hup_n g1]
theorem ll_remove {mc : Int} {q j : Nat} (h : LLh hp a ns its) (h0 : hp a = some (lhE mc ns)) (hj : j < ns.length) (hi : hp q = some (itE mc a ns[j]? ns[j + 1]? (j + 1))) {Q : HP → Prop} (hQ : ∀ hp1 : HP, LLh hp1 a (ns.eraseIdx j) (its.eraseIdx j) → hp1 a = some (lhE (mc + 1) (ns.eraseIdx j)) → hp1 q = some (itE (mc + 1) a none ns[j + 1]? j) → (∀ b : Nat, b ≠ a → b ≠ q → b ∉ ns → hp1 b = hp b) → (∀ b : Nat, hp b ≠ none → hp1 b ≠ none) → Q hp1) : w_J24_remove G hp q Q := by
  have hj2 : ns[j]? = some ns[j] := List.getElem?_eq_getElem hj
  have hqn : q ∉ ns := fun z => by
    obtain ⟨i, g⟩ := List.getElem?_of_mem z
    rw [h.n3 g] at hi
    cases hi
  have hqa : q ≠ a := fun z => by rw [z, h0] at hi; cases hi
  refine ⟨⟨_, hi⟩, _, some a, hi, rfl, a, rfl, _, mc, h0, rfl, _, mc, hi, rfl, fun _ => ?_, fun g => absurd rfl g⟩
  refine ⟨_, ns[j]?, hi, rfl, fun _ => ?_, fun g => absurd (by rw [hj2]; exact fun z => by cases z) g⟩
  refine ⟨_, ns[j]?, hi, rfl, ns[j], hj2, _, ns[j + 1]?, h.n3 hj2, rfl, _, some a, hi, rfl, _, ns[j]?, hi, rfl, a, rfl, ⟨_, h0⟩, ?_⟩
  rw [hj2]
  refine ll_unlink h h0 hj2 (fun hp1 g1 g2 g3 g4 => ?_)
  have hi1 : hp1 q = some (itE mc a ns[j]? ns[j + 1]? (j + 1)) := (g3 q hqa hqn).trans hi
  refine ⟨_, ns[j + 1]?, hi1, rfl, _, ns[j]?, hi1, rfl, ?_⟩
  have hd : ¬ ns[j + 1]? = ns[j]? := fun e => by
    have := nd_ix h.2.2.1 (e.trans hj2) hj2
    omega
  refine ⟨fun _ => ?_, fun g => absurd hd g⟩
  refine ⟨_, ((j + 1 : Nat) : Int), hi1, rfl, _, hi1, Nat.le_of_ble_eq_true rfl, _, hup_s, Nat.le_of_ble_eq_true rfl, ?_⟩
  rw [hup_hup]
  refine ⟨_, mc, hup_s, rfl, _, hup_s, Nat.le_of_ble_eq_true rfl, ?_⟩
  rw [hup_hup]
  refine hQ _ (g1.fr (hup_n hqa.symm) (fun n hn => hup_n (fun z => hqn (z ▸ List.mem_of_mem_eraseIdx hn)))) ((hup_n hqa.symm).trans g2) ?_ (fun b b1 b2 b3 => ?_) (fun b hb => hup_nn (g4 b hb))
  · rw [hup_s]
    show some (Sum.inr (21, [va_rf none, va_rf ns[j + 1]?, vI (((j + 1 : Nat) : Int) - 1), vI (mc + 1), .ref a])) = _
    rw [show (((j + 1 : Nat) : Int) - 1) = (j : Int) by omega]
    rfl
  · rw [hup_n b2]
    exact g3 b b1 b3
end LLP
