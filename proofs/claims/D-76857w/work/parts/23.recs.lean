/-! 23 RECS: methods of Net seen from the heap (by mkrec.py) -/
set_option maxRecDepth 100000
def w_X1_adds (G : GG) (hp : HP) (this : Nat) (a1 : Int) (a2 : Int) (a3 : Int) (a4 : Int) (a5 : Int) (Q : HP → Prop) : Prop := ∃ (ad : Nat → Nat) (b : Nat) (M M1 : RM), this = ad (b + 20) ∧ RP G (dN b) ad M hp ∧ f_X1_adds b M a1 a2 a3 a4 a5 = some M1 ∧ ∀ hp1 : HP, RP G (dN b) ad M1 hp1 → Fr (dN b) ad hp hp1 → Q hp1
theorem mh_X1_adds (l : Launch) (G : GG) (hp : HP) (this : Nat) (a1 : Int) (a2 : Int) (a3 : Int) (a4 : Int) (a5 : Int) (Q : HP → Prop) (hE : w_X1_adds G hp this a1 a2 a3 a4 a5 Q) : MH l yX1_adds (ws_ yX1_adds cX1_adds 7 none) 0 0 0 G [.ref this, vI a1, vI a2, vI a3, vI a4, vL a5] hp (pV Q) := by
  obtain ⟨ad, b, M, M1, rfl, hP, hf, hq⟩ := hE
  exact (MH.ofR hP (met_X1_adds l G ad hp b (nbN b) M a1 a2 a3 a4 a5 hf)).mono (fun rv hp1 ⟨e, h1, h2⟩ => ⟨e, hq hp1 h1 h2⟩)
def w_X1_solve (G : GG) (hp : HP) (this : Nat) (Q : Int → HP → Prop) : Prop := ∃ (ad : Nat → Nat) (b : Nat) (N : Nat) (r : Int) (M M1 : RM), this = ad (b + 20) ∧ RP G (dN b) ad M hp ∧ f_X1_solve b N M = some (r, M1) ∧ ∀ hp1 : HP, RP G (dN b) ad M1 hp1 → Fr (dN b) ad hp hp1 → Q r hp1
theorem mh_X1_solve (l : Launch) (G : GG) (hp : HP) (this : Nat) (Q : Int → HP → Prop) (hE : w_X1_solve G hp this Q) : MH l yX1_solve (ws_ yX1_solve cX1_solve 2 (some .boolean)) 9 0 0 G [.ref this] hp (pI Q) := by
  obtain ⟨ad, b, N, r, M, M1, rfl, hP, hf, hq⟩ := hE
  exact (MH.ofR hP (met_X1_solve l G ad hp b (nbN b) M hf)).mono (fun rv hp1 ⟨e, h1, h2⟩ => ⟨r, e, hq hp1 h1 h2⟩)
def w_X1_removes (G : GG) (hp : HP) (this : Nat) (a1 : Int) (Q : HP → Prop) : Prop := ∃ (ad : Nat → Nat) (b : Nat) (N : Nat) (M M1 : RM), this = ad (b + 20) ∧ RP G (dN b) ad M hp ∧ f_X1_removes b N M a1 = some M1 ∧ ∀ hp1 : HP, RP G (dN b) ad M1 hp1 → Fr (dN b) ad hp hp1 → Q hp1
theorem mh_X1_removes (l : Launch) (G : GG) (hp : HP) (this : Nat) (a1 : Int) (Q : HP → Prop) (hE : w_X1_removes G hp this a1 Q) : MH l yX1_removes (ws_ yX1_removes cX1_removes 3 none) 0 0 0 G [.ref this, vI a1] hp (pV Q) := by
  obtain ⟨ad, b, N, M, M1, rfl, hP, hf, hq⟩ := hE
  exact (MH.ofR hP (met_X1_removes l G ad hp b (nbN b) M a1 hf)).mono (fun rv hp1 ⟨e, h1, h2⟩ => ⟨e, hq hp1 h1 h2⟩)
def w_X1_sendsMore (G : GG) (hp : HP) (this : Nat) (a1 : Int) (a2 : Int) (a3 : Int) (Q : Int → HP → Prop) : Prop := ∃ (ad : Nat → Nat) (b : Nat) (N : Nat) (r : Int) (M M1 : RM), this = ad (b + 20) ∧ RP G (dN b) ad M hp ∧ f_X1_sendsMore b N M a1 a2 a3 = some (r, M1) ∧ ∀ hp1 : HP, RP G (dN b) ad M1 hp1 → Fr (dN b) ad hp hp1 → Q r hp1
theorem mh_X1_sendsMore (l : Launch) (G : GG) (hp : HP) (this : Nat) (a1 : Int) (a2 : Int) (a3 : Int) (Q : Int → HP → Prop) (hE : w_X1_sendsMore G hp this a1 a2 a3 Q) : MH l yX1_sendsMore (ws_ yX1_sendsMore cX1_sendsMore 4 (some .int)) 8 0 0 G [.ref this, vI a1, vI a2, vI a3] hp (pI Q) := by
  obtain ⟨ad, b, N, r, M, M1, rfl, hP, hf, hq⟩ := hE
  exact (MH.ofR hP (met_X1_sendsMore l G ad hp b (nbN b) M a1 a2 a3 hf)).mono (fun rv hp1 ⟨e, h1, h2⟩ => ⟨r, e, hq hp1 h1 h2⟩)
