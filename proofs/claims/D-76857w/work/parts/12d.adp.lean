/-! 15 ADP: what ArrayDeque's methods do to its picture -/
set_option maxRecDepth 100000
def adA (G : GG) (g : Nat → Option Nat) : va_E := .inl (G.2.1 4, (15, .inr (.inr (.inr (.inr g)))))
def adE (e h n : Nat) : va_E := .inr (20, [.ref e, vI h, vI ((h + n) % 15 : Nat)])
section ADP
variable {G : GG} {hp : HP} {a e h n : Nat} {g : Nat → Option Nat}
theorem ad_inc {i : Nat} (hi : i < 15) {Q : Int → HP → Prop} (hQ : Q ((i + 1) % 15 : Nat) hp) : w_J22_inc G hp i (15 : Nat) Q := by
  refine ⟨fun z => ?_, fun z => ?_⟩
  · have : w32 ((i : Int) + 1) = (i : Int) + 1 := w32_of (by omega) (by omega)
    rw [this, show w32 ((15 : Nat) : Int) = 15 from rfl] at z
    rw [show (((i + 1) % 15 : Nat) : Int) = (i : Int) + 1 by omega] at hQ
    exact hQ
  · have : w32 ((i : Int) + 1) = (i : Int) + 1 := w32_of (by omega) (by omega)
    rw [this, show w32 ((15 : Nat) : Int) = 15 from rfl] at z
    rw [show (((i + 1) % 15 : Nat) : Int) = 0 by omega] at hQ
    exact hQ
theorem ad_dec {i : Nat} (hi : i < 15) {Q : Int → HP → Prop} (hQ : Q ((i + 14) % 15 : Nat) hp) : w_J22_dec G hp i (15 : Nat) Q := by
  have hw : w32 ((i : Int) + (-1)) = (i : Int) + (-1) := w32_of (by omega) (by omega)
  refine ⟨fun z => ?_, fun z => ?_⟩
  · rw [hw] at z
    rw [show (((i + 14) % 15 : Nat) : Int) = (i : Int) + (-1) by omega] at hQ
    exact hQ
  · rw [hw] at z
    rw [show (((i + 14) % 15 : Nat) : Int) = ((15 : Nat) : Int) - 1 by omega] at hQ
    exact hQ
theorem ad_isEmpty (hh : h < 15) (hn : n ≤ 13) (h1 : hp a = some (adE e h n)) {Q : Int → HP → Prop} (hQ : Q (if n = 0 then 1 else 0) hp) : w_J22_isEmpty G hp a Q := by
  refine ⟨_, (h : Int), h1, rfl, _, (((h + n) % 15 : Nat) : Int), h1, rfl, ?_⟩
  have w1 : w32 (h : Int) = h := w32_of (by omega) (by omega)
  have w2 : w32 (((h + n) % 15 : Nat) : Int) = ((h + n) % 15 : Nat) := w32_of (by omega) (by omega)
  refine ⟨fun z => ?_, fun z => ?_⟩
  · rw [w1, w2] at z
    rw [if_neg (by omega)] at hQ
    exact hQ
  · rw [w1, w2] at z
    rw [if_pos (by omega)] at hQ
    exact hQ
theorem ad_addLast (hh : h < 15) (hn : n ≤ 13) (h1 : hp a = some (adE e h n)) (h2 : hp e = some (adA G g)) {x : Nat} (hx : ∃ fs : List Value, hp x = some (.inr (6, fs))) {Q : HP → Prop} (hQ : ∀ hp1 : HP, hp1 a = some (adE e h (n + 1)) → hp1 e = some (adA G (va_up g ((h + n) % 15) (some x))) → (∀ b : Nat, b ≠ a → b ≠ e → hp1 b = hp b) → Q hp1) : w_J22_addLast G hp a (some x) Q := by
  have hae : a ≠ e := fun z => by rw [← z, h1] at h2; cases h2
  refine ⟨fun _ => ?_, fun z => absurd (by simp) z⟩
  refine ⟨_, some e, h1, rfl, _, (((h + n) % 15 : Nat) : Int), h1, rfl, e, rfl, ?_⟩
  refine ⟨15, g, h2, by omega, by omega, fun b hb => by cases hb; exact hx, ?_⟩
  refine ⟨_, (h : Int), (hup_n hae).trans h1, rfl, _, (((h + n) % 15 : Nat) : Int), (hup_n hae).trans h1, rfl, e, rfl, 15, _, hup_s, ?_⟩
  refine ad_inc (by omega) ?_
  refine ⟨_, (hup_n hae).trans h1, Nat.le_of_ble_eq_true rfl, ?_⟩
  have w1 : w32 (h : Int) = h := w32_of (by omega) (by omega)
  have w2 : w32 ((((h + n) % 15 + 1) % 15 : Nat) : Int) = (((h + n) % 15 + 1) % 15 : Nat) := w32_of (by omega) (by omega)
  refine ⟨fun _ => ?_, fun z => absurd (by rw [w1, w2]; omega) z⟩
  refine hQ _ ?_ ?_ (fun b g1 g2 => by rw [hup_n g1, hup_n g2])
  · rw [hup_s]
    show some (Sum.inr (20, [.ref e, vI h, vI (((h + n) % 15 + 1) % 15 : Nat)])) = some (Sum.inr (20, [.ref e, vI h, vI ((h + (n + 1)) % 15 : Nat)]))
    rw [show ((h + n) % 15 + 1) % 15 = (h + (n + 1)) % 15 by omega]
  · rw [hup_n hae.symm, hup_s]
    rfl
theorem ad_removeFirst (hh : h < 15) (hn : n ≤ 14) (h0 : 0 < n) (h1 : hp a = some (adE e h n)) (h2 : hp e = some (adA G g)) {x : Nat} (hx : g h = some x) {Q : Option Nat → HP → Prop} (hQ : ∀ hp1 : HP, hp1 a = some (adE e ((h + 1) % 15) (n - 1)) → hp1 e = some (adA G (va_up g h none)) → (∀ b : Nat, b ≠ a → b ≠ e → hp1 b = hp b) → Q (some x) hp1) : w_J22_removeFirst G hp a Q := by
  have hae : a ≠ e := fun z => by rw [← z, h1] at h2; cases h2
  refine ⟨⟨_, h1⟩, _, some e, h1, rfl, _, (h : Int), h1, rfl, e, rfl, 15, g, h2, by omega, by omega, ?_⟩
  rw [show ((h : Int).toNat) = h by omega, hx]
  refine ⟨fun z => (by cases z), fun _ => ⟨e, rfl, 15, g, h2, by omega, by omega, fun b hb => (by cases hb), ?_⟩⟩
  refine ⟨e, rfl, 15, _, hup_s, ?_⟩
  refine ad_inc hh ?_
  refine ⟨_, (hup_n hae).trans h1, Nat.le_of_ble_eq_true rfl, fun _ => ?_, fun z => absurd (by simp) z⟩
  refine hQ _ ?_ ?_ (fun b g1 g2 => by rw [hup_n g1, hup_n g2])
  · rw [hup_s]
    show some (Sum.inr (20, [.ref e, vI ((h + 1) % 15 : Nat), vI ((h + n) % 15 : Nat)])) = some (Sum.inr (20, [.ref e, vI ((h + 1) % 15 : Nat), vI (((h + 1) % 15 + (n - 1)) % 15 : Nat)]))
    rw [show ((h + 1) % 15 + (n - 1)) % 15 = (h + n) % 15 by omega]
  · rw [hup_n hae.symm, hup_s]
    rfl
theorem ad_removeLast (hh : h < 15) (hn : n ≤ 14) (h0 : 0 < n) (h1 : hp a = some (adE e h n)) (h2 : hp e = some (adA G g)) {x : Nat} (hx : g ((h + (n - 1)) % 15) = some x) {Q : Option Nat → HP → Prop} (hQ : ∀ hp1 : HP, hp1 a = some (adE e h (n - 1)) → hp1 e = some (adA G (va_up g ((h + (n - 1)) % 15) none)) → (∀ b : Nat, b ≠ a → b ≠ e → hp1 b = hp b) → Q (some x) hp1) : w_J22_removeLast G hp a Q := by
  have hae : a ≠ e := fun z => by rw [← z, h1] at h2; cases h2
  refine ⟨⟨_, h1⟩, _, some e, h1, rfl, _, (((h + n) % 15 : Nat) : Int), h1, rfl, e, rfl, 15, _, h2, ?_⟩
  refine ad_dec (by omega) ?_
  have hi : ((h + n) % 15 + 14) % 15 = (h + (n - 1)) % 15 := by omega
  rw [hi]
  refine ⟨e, rfl, 15, g, h2, by omega, by omega, ?_⟩
  rw [show ((((h + (n - 1)) % 15 : Nat) : Int).toNat) = (h + (n - 1)) % 15 by omega, hx]
  refine ⟨fun z => (by cases z), fun _ => ⟨_, h1, Nat.le_of_ble_eq_true rfl, e, rfl, 15, g, (hup_n hae.symm).trans h2, by omega, by omega, fun b hb => (by cases hb), fun _ => ?_, fun z => absurd (by simp) z⟩⟩
  refine hQ _ ?_ ?_ (fun b g1 g2 => by rw [hup_n g2, hup_n g1])
  · rw [hup_n hae, hup_s]
    rfl
  · rw [hup_s]
    rfl
theorem ad_circ {b : Nat} {k : HP → Int → Int → Prop} {hp0 : HP} (hk : ∀ (hp1 : HP) (g1 : Nat → Option Nat) (x y : Int), hp1 b = some (adA G g1) → (∀ c : Nat, c ≠ b → hp1 c = hp0 c) → k hp1 x y) {t : Nat} (ht : t < 15) : ∀ (d i m : Nat) (hp1 : HP) (g1 : Nat → Option Nat), i + d = m → m ≤ 15 → (m = t ∨ m = 15) → hp1 b = some (adA G g1) → (∀ c : Nat, c ≠ b → hp1 c = hp0 c) → (w_J22_circularClear_L12 G (some b) t k (d + 18 * (m + 1) + 2) hp1 i m)
  | 0, i, m, hp1, g1, e1, e2, e3, e4, e5 => by
    have : i = m := by omega
    subst this
    rw [show 0 + 18 * (i + 1) + 2 = (18 * (i + 1) + 1) + 1 by omega]
    have w1 : w32 (i : Int) = i := w32_of (by omega) (by omega)
    have w2 : w32 (t : Int) = t := w32_of (by omega) (by omega)
    refine ⟨fun _ => ⟨fun z => ?_, fun z => ?_⟩, fun z => absurd (Int.le_refl _) z⟩
    · rw [w1, w2] at z
      have hm : i = 15 := by omega
      subst hm
      have G0 : ∀ (d2 i2 N2 : Nat) (hp2 : HP) (g2 : Nat → Option Nat), i2 + d2 = t → d2 < N2 → hp2 b = some (adA G g2) → (∀ c : Nat, c ≠ b → hp2 c = hp0 c) → w_J22_circularClear_L12 G (some b) t k N2 hp2 i2 t := by
        intro d2
        induction d2 with
        | zero =>
          intro i2 N2 hp2 g2 f1 f2 f3 f4
          obtain ⟨N3, rfl⟩ : ∃ N3, N2 = N3 + 1 := ⟨N2 - 1, by omega⟩
          have : i2 = t := by omega
          subst this
          exact ⟨fun _ => ⟨fun z => absurd rfl z, fun _ => hk _ g2 _ _ f3 f4⟩, fun z => absurd (Int.le_refl _) z⟩
        | succ d2 ih =>
          intro i2 N2 hp2 g2 f1 f2 f3 f4
          obtain ⟨N3, rfl⟩ : ∃ N3, N2 = N3 + 1 := ⟨N2 - 1, by omega⟩
          have w3 : w32 (i2 : Int) = i2 := w32_of (by omega) (by omega)
          refine ⟨fun z => absurd z (by rw [w2, w3]; omega), fun _ => ⟨b, rfl, 15, g2, f3, by omega, by omega, fun b hb => (by cases hb), ?_⟩⟩
          exact ih (i2 + 1) N3 _ _ (by omega) (by omega) hup_s (fun c hc => by rw [hup_n hc]; exact f4 c hc)
      exact G0 t 0 _ hp1 g1 (by omega) (by omega) e4 e5
    · exact hk _ g1 _ _ e4 e5
  | d + 1, i, m, hp1, g1, e1, e2, e3, e4, e5 => by
    rw [show d + 1 + 18 * (m + 1) + 2 = (d + 18 * (m + 1) + 2) + 1 by omega]
    have w1 : w32 (i : Int) = i := w32_of (by omega) (by omega)
    have w2 : w32 (m : Int) = m := w32_of (by omega) (by omega)
    refine ⟨fun z => absurd z (by rw [w2, w1]; omega), fun _ => ⟨b, rfl, 15, g1, e4, by omega, by omega, fun b hb => (by cases hb), ?_⟩⟩
    exact ad_circ hk ht d (i + 1) m _ _ (by omega) e2 e3 hup_s (fun c hc => by rw [hup_n hc]; exact e5 c hc)
theorem ad_clear (hh : h < 15) (h1 : hp a = some (adE e h n)) (h2 : hp e = some (adA G g)) {Q : HP → Prop} (hQ : ∀ (hp1 : HP) (g1 : Nat → Option Nat), hp1 a = some (adE e 0 0) → hp1 e = some (adA G g1) → (∀ b : Nat, b ≠ a → b ≠ e → hp1 b = hp b) → Q hp1) : w_J22_clear G hp a Q := by
  have hae : a ≠ e := fun z => by rw [← z, h1] at h2; cases h2
  have hb : (h + n) % 15 < 15 := Nat.mod_lt _ (by decide)
  refine ⟨_, some e, h1, rfl, _, (h : Int), h1, rfl, _, (((h + n) % 15 : Nat) : Int), h1, rfl, ?_⟩
  have w1 : w32 (h : Int) = h := w32_of (by omega) (by omega)
  have w2 : w32 (((h + n) % 15 : Nat) : Int) = ((h + n) % 15 : Nat) := w32_of (by omega) (by omega)
  have fin : ∀ m : Nat, h ≤ m → m ≤ 15 → (m = (h + n) % 15 ∨ m = 15) → ∃ N : Nat, w_J22_circularClear_L12 G (some e) ((h + n) % 15 : Nat) (fun (hp6 : HP) (v7 : Int) (v8 : Int) => hPut hp6 a 20 2 (vI 0) fun hp5 => hPut hp5 a 20 1 (vI 0) fun hp6 => Q hp6) N hp h m := by
    intro m f1 f2 f3
    refine ⟨_, ad_circ (hp0 := hp) (fun hp1 g1 x y e4 e5 => ?_) hb (m - h) h m hp g (by omega) f2 f3 h2 (fun _ _ => rfl)⟩
    refine ⟨_, (e5 a hae).trans h1, Nat.le_of_ble_eq_true rfl, _, hup_s, Nat.le_of_ble_eq_true rfl, ?_⟩
    rw [hup_hup]
    refine hQ _ g1 ?_ ?_ (fun b b1 b2 => ?_)
    · rw [hup_s]; rfl
    · rw [hup_n hae.symm]; exact e4
    · rw [hup_n b1]; exact e5 b b2
  refine ⟨fun z => ?_, fun z => ?_⟩
  · exact ⟨e, rfl, 15, _, h2, fin 15 (by omega) (by omega) (Or.inr rfl)⟩
  · rw [w1, w2] at z
    exact fin ((h + n) % 15) (by omega) (by omega) (Or.inl rfl)
end ADP
