/-! 22 XMORE: tight, undo, image -/
set_option maxRecDepth 100000
def pTight (M : RM) : Nat → Int
  | 0 => 0
  | j + 1 => pTight M j + (if w32 (M 500 (5 * j + 2)) = w32 (M 500 (5 * j + 3)) then 1 else 0)
section XMO
variable {G : GG} {ad : Nat → Nat} {M M1 : RM} {own own1 : Nat → Nat} {hp hp1 : HP}
theorem tight_loop {q : Nat} {k : HP → Int → Prop} {n : Nat} (hk : ∀ hp1 : HP, XO G ad M own hp1 → k hp1 (pTight M n)) : ∀ (d j : Nat) (mc : Int) (ns its : List Nat) (lr : Option Nat) (hp1 : HP), ns.length ≤ 1000 → ns.length = n → j + d = ns.length → ITw G ad M own hp1 q j mc ns its lr → w_X0_tight_L10 G (some q) k (d + 1) hp1 (pTight M j) := by
  intro d
  induction d with
  | zero =>
    intro j mc ns its lr hp1 e0 en e1 h
    refine ⟨q, rfl, ⟨_, h.2.2.2.1⟩, h.hasNext e0 (by omega) ?_⟩
    rw [if_neg (by omega)]
    refine ⟨fun _ => ?_, fun z => absurd rfl z⟩
    rw [show j = n by omega]
    exact hk _ h.1
  | succ d ih =>
    intro j mc ns its lr hp1 e0 en e1 h
    refine ⟨q, rfl, ⟨_, h.2.2.2.1⟩, h.hasNext e0 (by omega) ?_⟩
    rw [if_pos (by omega)]
    refine ⟨fun z => absurd z (by decide), fun _ => ⟨q, rfl, ⟨_, h.2.2.2.1⟩, h.next e0 (by omega) (fun a hp2 _ o2 h2 _ => ?_)⟩⟩
    refine ⟨fun b hb => (by cases hb; exact ⟨_, o2⟩), a, rfl, _, M 500 (5 * j + 2), o2, rfl, a, rfl, _, M 500 (5 * j + 3), o2, rfl, ?_⟩
    refine ⟨fun z => ?_, fun z => ?_⟩
    · have := ih (j + 1) mc ns its _ hp2 e0 en (by omega) h2
      unfold pTight at this
      rw [if_neg z] at this
      exact this
    · have := ih (j + 1) mc ns its _ hp2 e0 en (by omega) h2
      unfold pTight at this
      rw [if_pos (Classical.byContradiction z)] at this
      exact this
theorem XO.rawF (h : XO G ad M own hp) {F : Option Nat → Prop} {k : Nat} (hf : frF[k]? = some (4, 0)) (hF : F (rfw (M 40 k))) : hR hp (ad 40) 0 k F := ⟨_, rfw (M 40 k), h.this, by rw [List.getElem?_mapIdx, hf]; rfl, hF⟩
end XMO
def f_X0_tight (M : RM) : Option Int := if M 2 1 ≤ 24 then some (pTight M (M 2 1).toNat) else none
theorem mx_X0_tight (l : Launch) (G : GG) (ad : Nat → Nat) (M : RM) {out : Int} (hE : f_X0_tight M = some out) : MX l yX0_tight (ws_ yX0_tight cX0_tight 4 (some .int)) 5 1 5 G ad [.ref (ad 40)] M (Zd (some (vI out)) M) := by
  unfold f_X0_tight at hE
  by_cases g : M 2 1 ≤ 24
  · rw [if_pos g] at hE
    cases hE
    refine MX.ofO zI (fun own hp x => mh_X0_tight l G hp (ad 40) _ (x.refF (k := 2) rfl ⟨ad 2, rfl, x.recR, x.iter (by omega) (fun q mc ns its hp2 e0 e1 h e2 => ⟨ns.length + 1, ?_⟩)⟩))
    exact tight_loop (G := G) (ad := ad) (M := M) (own := own) (q := q) (n := (M 2 1).toNat) (k := fun hp18 v19 => v19 = pTight M (M 2 1).toNat ∧ ∃ own1 : Nat → Nat, XO G ad M own1 hp18) (fun hp1 x1 => ⟨rfl, own, x1⟩) ns.length 0 mc ns its none hp2 e0 (by omega) (by omega) h
  · rw [if_neg g] at hE; cases hE
def pUndo (M : RM) : RM := up2 (pBecomes M (M 504)) 8 0 0
def f_X0_undo (M : RM) : Option (Int × RM) := if M 40 31 ≤ 0 then some (-3, M) else some (pUndo M 2 1, pUndo M)
theorem mx_X0_undo (l : Launch) (G : GG) (ad : Nat → Nat) (M : RM) {out : Int × RM} (hE : f_X0_undo M = some out) : MX l yX0_undo (ws_ yX0_undo cX0_undo 1 (some .int)) 5 50 200 G ad [.ref (ad 40)] M (Zd (some (vI out.1)) out.2) := by
  unfold f_X0_undo at hE
  refine MX.ofO zI (fun own hp x => mh_X0_undo l G hp (ad 40) _ (x.rawF (k := 31) rfl ⟨fun z => ?_, fun z => ?_⟩))
  · by_cases g : M 40 31 ≤ 0
    · exact absurd (by unfold rfw; rw [if_pos g]) z
    · rw [if_neg g] at hE
      cases hE
      have hi : dyImage G (vw M) own (rst own hp) := x.2.2.2.2.2.2.2.1
      have v31 : vw M 40 31 = M 40 31 := by unfold vw; rw [if_pos (Or.inr ⟨rfl, Or.inr rfl⟩)]
      rcases hi with hi | ⟨a, h1, h2⟩
      · rw [v31] at hi; omega
      · rw [v31] at h1
        rw [vw_v rfl] at h2
        have h3 : shotE G own 5 hp a (M 504) := h2.mv (fun b e b1 b2 _ _ => ⟨b1, (rst_some b2).2⟩)
        have e : rfw (M 40 31) = some a := by unfold rfw; rw [if_neg g, h1]; congr 1; omega
        refine x.rawF (k := 31) rfl ⟨x.isT, ?_⟩
        rw [e]
        refine x.becomes (t := 5) (by decide) h3 (fun own2 hp2 x2 _ => ?_)
        refine x2.refF (k := 8) rfl ⟨ad 8, rfl, x2.recD, x2.clearDone (fun hp3 x3 => ?_)⟩
        exact x3.refF (k := 2) rfl ⟨ad 2, rfl, x3.recR, x3.size ⟨rfl, own2, x3⟩⟩
  · by_cases g : M 40 31 ≤ 0
    · rw [if_pos g] at hE
      cases hE
      exact ⟨rfl, own, x⟩
    · exact absurd (by unfold rfw; rw [if_neg g]; exact fun y => by cases y) z
