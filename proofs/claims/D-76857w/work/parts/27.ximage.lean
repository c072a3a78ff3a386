/-! 27 XIMAGE: the image is kept (its address is any) -/
set_option maxRecDepth 100000
def pImage (M : RM) (a : Nat) : RM := up2 (setc M 504 (shotF M)) 40 31 (a + 1)
theorem put31 {G : GG} {ad : Nat → Nat} {M : RM} {hp : HP} {v : Int} {F : HP → Prop} (h : hp (ad 40) = some (rwc G ad (M 40) (.inr (0, frF)))) (hF : F (hup hp (ad 40) (rwc G ad (up2 M 40 31 v 40) (.inr (0, frF))))) : hPut hp (ad 40) 0 31 (rwv ad v (4, 0)) F := by
  refine ⟨_, h, by rw [List.length_mapIdx]; decide, ?_⟩
  have hf : frF[31]? = some (4, 0) := rfl
  have e := mapIdx_set (ad := ad) (M := M) (o := 40) (x := v) hf
  rw [e]
  exact hF
theorem rwv4 {ad : Nat → Nat} (a : Nat) : va_rf (some a) = rwv ad ((a : Int) + 1) (4, 0) := by
  show va_rf (some a) = va_rf (rfw ((a : Int) + 1))
  congr 1
  unfold rfw
  rw [if_neg (by omega)]
  congr 1
  omega
theorem XO.image {G : GG} {ad : Nat → Nat} {M : RM} {own : Nat → Nat} {hp0 hp : HP} {a : Nat} {F : HP → Prop} (x0 : XO G ad M own hp0) (hx : ∀ b : Nat, hp0 b ≠ none → hp b = hp0 b) (hs : ∀ t : Nat, shotE G (fun b => if hp0 b = none then t else 0) t hp a (shotF M)) (hF : ∀ (own1 : Nat → Nat) (hp1 : HP), XO G ad (pImage M a) own1 hp1 → F hp1) : hPut hp (ad 40) 0 31 (va_rf (some a)) F := by
  have x := x0.ext hx
  rw [rwv4 (ad := ad) a]
  refine put31 x.this ?_
  have o0 : ∀ b : Nat, own b ≠ 0 → hp0 b ≠ none := fun b hb z => hb (x0.2.2.1 b z)
  have ho : ∀ b : Nat, own b ≠ 0 → (if hp0 b = none ∧ hp b ≠ none then 5 else own b) = own b := fun b hb => if_neg (fun z => o0 b hb z.1)
  have hr : ∀ c : Nat, dX c ≠ none → hp0 (ad c) ≠ none := fun c hc => x0.al (Or.inr ⟨c, hc, rfl⟩)
  have d40 : dX 40 ≠ none := fun z => by cases z
  have h40 : ∀ b : Nat, own b ≠ 0 → b ≠ ad 40 := fun b hb z => hb (by rw [z]; exact x.2.1 40 d40)
  generalize hq : hup hp (ad 40) (rwc G ad (up2 M 40 31 ((a : Int) + 1) 40) (.inr (0, frF))) = hp1
  have f1 : ∀ b : Nat, b ≠ ad 40 → hp1 b = hp b := fun b hb => by rw [← hq]; exact hup_n hb
  obtain ⟨h0, h1, h3, d1, d2, d3, d4, d5, d6⟩ := x
  have hkp : ∀ t : Nat, t ≠ 0 → kp t own (fun b => if hp0 b = none ∧ hp b ≠ none then 5 else own b) hp hp1 := fun t ht b hb => ⟨(ho b (by rw [hb]; exact ht)).trans hb, f1 b (h40 b (by rw [hb]; exact ht))⟩
  have hv : ∀ c j : Nat, c ≠ 504 → (c ≠ 40 ∨ j ≠ 31) → vw (pImage M a) c j = vw M c j := fun c j g1 g2 => by
    unfold vw pImage
    by_cases e : c = 40
    · subst e
      have e2 : j ≠ 31 := g2.elim (fun z => absurd rfl z) id
      rw [up2_j e2, setc_n (by decide)]
    · rw [up2_c e, setc_n g1]
  refine hF _ hp1 ⟨⟨fun c q hc => ?_, h0.2⟩, fun c hc => ?_, fun b hb => ?_, d1.fr (hkp 1 (by decide)) (hv 2 1 (by decide) (Or.inl (by decide))) (fun j => hv 500 j (by decide) (Or.inl (by decide))), d2.fr (hkp 2 (by decide)), d3.fr (hkp 3 (by decide)) (hv 25 1 (by decide) (Or.inl (by decide))) (fun j => hv 502 j (by decide) (Or.inl (by decide))), d4.fr (hkp 4 (by decide)) (hv 8 0 (by decide) (Or.inl (by decide))) (fun j => hv 503 j (by decide) (Or.inl (by decide))), Or.inr ⟨a, ?_, ?_⟩, d6.fr (hkp 6 (by decide)) (fun r hr => hkp (60 + r) (by omega)) (fun j => hv 509 j (by decide) (Or.inl (by decide))) (fun r j hr => hv (505 + r) j (by omega) (Or.inl (by omega)))⟩
  · by_cases e : c = 40
    · subst e
      have : q = .inr (0, frF) := by
        have h9 : dX 40 = some (.inr (0, frF)) := rfl
        rw [h9] at hc
        exact (Option.some.inj hc).symm
      subst this
      rw [← hq, hup_s]
      have e5 : pImage M a 40 = up2 M 40 31 ((a : Int) + 1) 40 := by
        funext j
        unfold pImage
        by_cases g : j = 31
        · subst g; rw [up2_s, up2_s]
        · rw [up2_j g, up2_j g, setc_n (by decide)]
      rw [e5]
    · rw [f1 _ (fun z => e (h0.2 c 40 (by rw [hc]; exact fun z => by cases z) d40 z)), h0.1 c q hc]
      have e5 : pImage M a c = M c := by
        funext j
        unfold pImage
        rw [up2_c e, setc_n (fun z => by subst z; cases hc)]
      rw [e5]
  · show (if hp0 (ad c) = none ∧ hp (ad c) ≠ none then 5 else own (ad c)) = 0
    rw [if_neg (fun z => hr c hc z.1)]
    exact h1 c hc
  · show (if hp0 b = none ∧ hp b ≠ none then 5 else own b) = 0
    have e : b ≠ ad 40 := fun z => by rw [z, ← hq, hup_s] at hb; cases hb
    rw [f1 b e] at hb
    rw [if_neg (fun z => z.2 hb)]
    exact h3 b hb
  · unfold vw
    rw [if_pos (Or.inr ⟨rfl, Or.inr rfl⟩)]
    exact up2_s _ _ _ _
  · have e5 : vw (pImage M a) 504 = shotF M := by
      rw [vw_v rfl]
      funext j
      unfold pImage
      rw [up2_c (by decide), setc_s]
    rw [e5]
    refine (hs 5).mv (fun b e b1 b2 _ _ => ?_)
    have b3 : hp0 b = none := Classical.byContradiction fun z => by
      have : (if hp0 b = none then 5 else 0) = 5 := b1
      rw [if_neg z] at this
      cases this
    have b4 : (if hp0 b = none ∧ hp b ≠ none then 5 else own b) = 5 := if_pos ⟨b3, fun z => by rw [z] at b2; cases b2⟩
    refine ⟨b4, ?_⟩
    have b5 : b ≠ ad 40 := fun z => hr 40 d40 (by rw [← z]; exact b3)
    refine (rst_t (t := 4) (own := fun b => if hp0 b = none ∧ hp b ≠ none then 5 else own b) b4).trans ?_
    rw [f1 b b5]
    exact b2
def fImage (M : RM) : Bool := decide (M 2 1 ≤ 24)
theorem mx_X0_image (l : Launch) (G : GG) (ad : Nat → Nat) (M : RM) (h : M 2 1 ≤ 24) : MX l yX0_image (ws_ yX0_image cX0_image 1 (some .int)) 6 29 166 G ad [.ref (ad 40)] M (fun rv M1 => rv = some (vI (M 2 1)) ∧ ∃ a : Nat, M1 = pImage M a) := by
  refine MX.ofH (fun hp hP hY => ?_)
  obtain ⟨own, x⟩ := XO.of hP hY
  refine ⟨_, mh_X0_image l G hp (ad 40) (fun v hp1 => v = M 2 1 ∧ ∃ (a : Nat) (own1 : Nat → Nat), XO G ad (pImage M a) own1 hp1) ⟨x.isT, x.shot h (fun hp1 a e1 e2 => x.image e1 e2 (fun own1 hp2 x2 => x2.refF (k := 2) rfl ⟨ad 2, rfl, x2.recR, x2.size ⟨by unfold pImage; rw [up2_c (by decide), setc_n (by decide)], a, own1, x2⟩⟩))⟩, ?_⟩
  · rintro rv hp1 ⟨v, rfl, rfl, a, own1, x1⟩
    exact ⟨_, ⟨rfl, a, rfl⟩, x1.1, x1.dy⟩
